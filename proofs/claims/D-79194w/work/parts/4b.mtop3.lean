/-! ===== CueStackModel: its calls, third part ===== -/
def O_instruction (f : Nat → Int32) (σ : MS) (i w : Int32) : OO := if ¬ u i < u (f 1) then oX f σ 1 else if ¬ u w < 4 then oX f σ 2 else oR f σ (f (162 + 4 * u i + u w))
def O_level (f : Nat → Int32) (σ : MS) (cue c : Int32) : OO := match pl f cue with
  | none => oX f σ 1
  | some p => if ¬ u c < 12 then oX f σ 1 else oR f σ (lvN f (u c) (p + 1))
/-- source: from a place down -/
def srN (f : Nat → Int32) (ch : Int32) : Nat → Nat
  | 0 => 0
  | k + 1 => if (gv f (f (18 + 12 * (k + 1))) ch).isNone && !isBl f (k + 1) then srN f ch k else k + 1
def O_source (f : Nat → Int32) (σ : MS) (cue c : Int32) : OO := match pl f cue with
  | none => oX f σ 1
  | some p => if ¬ u c < 12 then oX f σ 1 else oR f σ (f (18 + 12 * srN f c p))
def O_sum (f : Nat → Int32) (σ : MS) (cue : Int32) : OO := match pl f cue with
  | none => oX f σ 1
  | some p => oR f σ (smN (fun c => lvN f c (p + 1)) 12)
def apG (f : Nat → Int32) (p q c : Nat) : Int32 := if lvN f c (p + 1) = lvN f c (q + 1) then 0 else 1
def O_apart (f : Nat → Int32) (σ : MS) (cue cue2 : Int32) : OO := match pl f cue with
  | none => oX f σ 1
  | some p => match pl f cue2 with
    | none => oX f σ 1
    | some q => oR f σ (smN (apG f p q) 12)
def O_reason (f : Nat → Int32) (σ : MS) : OO := if σ.2 6 = 0 then (1, σ.2 6, f, mV σ 7 (Int32.ofNat 1)) else oR f σ (σ.2 6)
def O_steps (f : Nat → Int32) (σ : MS) (b : Bool) : OO :=
  if 0 < (dGo f (mA σ 1 f) b).1 then (1, 0, (dGo f (mA σ 1 f) b).2.1, mV (dGo f (mA σ 1 f) b).2.2 7 (Int32.ofNat 1))
  else (0, (dGo f (mA σ 1 f) b).2.1 2, (dGo f (mA σ 1 f) b).2.1, chg (mV (dGo f (mA σ 1 f) b).2.2 7 (Int32.ofNat 0)))
def O_jump (f : Nat → Int32) (σ : MS) (cue : Int32) : OO := match pl f cue with
  | none => oX f σ 1
  | some p => (0, gsC f cue p 12, goF f cue p, oC f σ)
def O_pass (f : Nat → Int32) (σ : MS) (t : Int32) : OO :=
  if (dPs f t).1 = 0 then (0, (dPs f t).2 4 - f 4, (dPs f t).2, chg (mV (mA σ 1 f) 7 (Int32.ofNat 0))) else ((dPs f t).1, 0, (dPs f t).2, mV (mA σ 1 f) 7 (Int32.ofNat (dPs f t).1))
def O_now (f : Nat → Int32) (σ : MS) (c : Int32) : OO := if ¬ u c < 12 then oX f σ 1 else oR f σ (nowF f (u c))
def O_target (f : Nat → Int32) (σ : MS) (c : Int32) : OO := if ¬ u c < 12 then oX f σ 1 else oR f σ (f (402 + 5 * u c + 1))
def flT (f : Nat → Int32) : Int32 := match pl f (f 2) with
  | none => 0
  | some p => if Int32.ofNat 1 < f (18 + 12 * p + 1) - f 3 then f (18 + 12 * p + 1) - f 3 else Int32.ofNat 1
def plyV (f : Nat → Int32) : Nat → Int32
  | 0 => f 2
  | 1 => f 3
  | 2 => nx f (f 2)
  | 3 => orN (isF f) 12
  | _ => if flB f then flT f else -1
def O_playing (f : Nat → Int32) (σ : MS) (w : Int32) : OO := if ¬ u w ≤ 4 then oX f σ 1 else oR f σ (plyV f (u w))
def dGq (f : Nat → Int32) (b : Bool) : Int32 := if b then ahN f (f 2) (u (f 0)) else nx f (f 2)
theorem dGo_pos {f : Nat → Int32} {σ : MS} {b : Bool} (h : dGq f b = 0) : dGo f σ b = ((if b then 5 else 4), σ.1 1, mV σ 6 (Int32.ofNat (if b then 5 else 4))) := if_pos h
theorem dGo_neg {f : Nat → Int32} {σ : MS} {b : Bool} (h : ¬ dGq f b = 0) : dGo f σ b = (0, goX f (dGq f b), σ) := if_neg h
theorem dGo_inv {f : Nat → Int32} {σ : MS} {b : Bool} (hI : Inv f) (hI1 : Inv (σ.1 1)) : Inv (dGo f σ b).2.1 := by
  by_cases e : dGq f b = 0
  · rw [dGo_pos e]; exact hI1
  · rw [dGo_neg e]; exact goX_inv hI
theorem dGo_le {f : Nat → Int32} {σ : MS} {b : Bool} : (dGo f σ b).1 ≤ 5 := by
  by_cases e : dGq f b = 0
  · rw [dGo_pos e]; cases b <;> simp
  · rw [dGo_neg e]; exact Nat.zero_le _
theorem dGo_5 {f : Nat → Int32} {σ : MS} {b : Bool} : (dGo f σ b).2.2.2 5 = σ.2 5 := by
  by_cases e : dGq f b = 0
  · rw [dGo_pos e]; rfl
  · rw [dGo_neg e]
theorem oG_pos {f : Nat → Int32} {σ : MS} {c k : Nat} {g : Nat × (Nat → Int32) × MS} (h : 0 < g.1) : oG f σ c k g = (k, 0, g.2.1, mV g.2.2 7 (Int32.ofNat k)) := if_pos h
theorem dRm_5 {f : Nat → Int32} {σ : MS} {b : Bool} {cue : Int32} : (dRm f σ cue b).2.2.2 5 = σ.2 5 := by
  unfold dRm
  split
  · rfl
  · split
    · rfl
    · split
      · split <;> rfl
      · rfl
theorem dPs_le {f : Nat → Int32} {t : Int32} : (dPs f t).1 ≤ 2 := by
  unfold dPs
  split
  · exact Nat.le_succ _
  · split
    · exact Nat.le_refl _
    · exact Nat.zero_le _
theorem dTk_le {f : Nat → Int32} {σ : MS} {cue : Int32} {p c : Nat} {b : Bool} : (dTk f σ cue p c b).1 ≤ 3 := by
  unfold dTk
  split
  · exact tkH_le
  · exact Nat.zero_le _
section MTOP3
variable {G : GG} {d : Nat} {h : AH} {m : Nat} {f : Nat → Int32} {σ : MS}
theorem s_X6_unset {cue c : Int32} {b : Bool} (hd : 5 ≤ d) (hI : Inv f) (hpm : u (σ.2 5) ≤ 6) : MA G d mX6_unset [.ref m, .int cue, .int c, .int (bI b)] (mH h m f σ) (fun r h' => r = .inl (some (.int (O_unset f σ cue c b).2.1)) ∧ h' = mH h m (O_unset f σ cue c b).2.2.1 (O_unset f σ cue c b).2.2.2) := by
  have hn := hI.1
  show WA _ _ _ 0 [.ref m, .int _, .int _, .int _, .retAddr 0] [] _ _
  cases hp : pl f cue with
  | none =>
    rw [show O_unset f σ cue c b = oX f σ 1 by unfold O_unset; rw [hp]]
    first | refine wa_aload_n (pc := 0) (y := mX6_unset) dX6_unset_0 rfl ?_ | refine wa_aload_nN (pc := 0) (y := mX6_unset) dX6_unset_0 rfl ?_ | refine wa_aload_nq (pc := 0) (y := mX6_unset) dX6_unset_0 rfl ?_
    first | refine wa_aload_n (pc := 1) (y := mX6_unset) dX6_unset_1 rfl ?_ | refine wa_aload_nN (pc := 1) (y := mX6_unset) dX6_unset_1 rfl ?_ | refine wa_aload_nq (pc := 1) (y := mX6_unset) dX6_unset_1 rfl ?_
    refine wa_iload_n (pc := 2) (y := mX6_unset) dX6_unset_2 rfl ?_
    refine wa_callV (pc := 3) (s_X6_isCue (d := d - 1) (by omega) hI) dX6_unset_3 okX6_isCue q2719 q2721 qs41 mH_o rfl rfl rfl (Nat.le_of_ble_eq_true rfl) (Nat.le_of_ble_eq_true rfl) (by omega) ?_
    rintro _ _ - - ⟨rfl, rfl⟩
    refine aft_v (pc2 := 6) ?_ rfl
    rw [isC_none hp]
    refine wa_if_eq (pc := 6) 20 dX6_unset_6 rfl (fun hb6 => ?_) (fun hb6 => absurd rfl hb6)
    refine wa_iconst (pc := 20) (y := mX6_unset) (Int32.ofNat 1) dX6_unset_20 rfl ?_
    refine wa_putf (pc := 21) (y := mX6_unset) (k := 5) 7 .int dX6_unset_21 mH_o rfl q2650 (Or.inl rfl) (Nat.le_of_ble_eq_true rfl) rfl (by decide +kernel) rfl rfl ?_
    rw [mW_o7]
    first | refine wa_aload_n (pc := 24) (y := mX6_unset) dX6_unset_24 rfl ?_ | refine wa_aload_nN (pc := 24) (y := mX6_unset) dX6_unset_24 rfl ?_ | refine wa_aload_nq (pc := 24) (y := mX6_unset) dX6_unset_24 rfl ?_
    refine wa_getf (pc := 25) (y := mX6_unset) (k := 5) 7 dX6_unset_25 mH_o rfl q2650 (Or.inl rfl) (Nat.le_of_ble_eq_true rfl) (by rfl) ?_
    show WA _ _ _ _ _ (.int (Int32.ofNat 1) :: _) _ _
    refine wa_if_le (pc := 28) 33 dX6_unset_28 rfl (fun hb28 => absurd hb28 (by decide)) (fun hb28 => ?_)
    clear hb28
    refine wa_iconst (pc := 31) (y := mX6_unset) (Int32.ofNat 0) dX6_unset_31 rfl ?_
    exact wa_ireturn (pc := 32) (y := mX6_unset) .int dX6_unset_32 rfl rfl ⟨rfl, rfl⟩
  | some p =>
    have hps := pl_some hp
    by_cases e0 : u c < 12
    · rw [show O_unset f σ cue c b = oG f σ (u c) 2 (dTk f (mA (mV σ 7 (Int32.ofNat 0)) 1 f) cue p (u c) b) by unfold O_unset; rw [hp]; exact if_neg (fun x => x e0)]
      have hle := tkH_le (f := f) (old := σ.1 8) (cue := cue) (p := p) (c := u c) (b := b)
      by_cases e3 : 0 < (tkH f (σ.1 8) cue p (u c) b).1
      · rw [show dTk f (mA (mV σ 7 (Int32.ofNat 0)) 1 f) cue p (u c) b = ((tkH f (σ.1 8) cue p (u c) b).1, f, mV (mA (mA (mV σ 7 (Int32.ofNat 0)) 1 f) 8 (tkH f (σ.1 8) cue p (u c) b).2.2) 6 (Int32.ofNat (tkH f (σ.1 8) cue p (u c) b).1)) from if_pos e3, oG_pos e3]
        first | refine wa_aload_n (pc := 0) (y := mX6_unset) dX6_unset_0 rfl ?_ | refine wa_aload_nN (pc := 0) (y := mX6_unset) dX6_unset_0 rfl ?_ | refine wa_aload_nq (pc := 0) (y := mX6_unset) dX6_unset_0 rfl ?_
        first | refine wa_aload_n (pc := 1) (y := mX6_unset) dX6_unset_1 rfl ?_ | refine wa_aload_nN (pc := 1) (y := mX6_unset) dX6_unset_1 rfl ?_ | refine wa_aload_nq (pc := 1) (y := mX6_unset) dX6_unset_1 rfl ?_
        refine wa_iload_n (pc := 2) (y := mX6_unset) dX6_unset_2 rfl ?_
        refine wa_callV (pc := 3) (s_X6_isCue (d := d - 1) (by omega) hI) dX6_unset_3 okX6_isCue q2719 q2721 qs41 mH_o rfl rfl rfl (Nat.le_of_ble_eq_true rfl) (Nat.le_of_ble_eq_true rfl) (by omega) ?_
        rintro _ _ - - ⟨rfl, rfl⟩
        refine aft_v (pc2 := 6) ?_ rfl
        rw [isC_some hp]
        refine wa_if_eq (pc := 6) 20 dX6_unset_6 rfl (fun hb6 => absurd hb6 (by decide)) (fun hb6 => ?_)
        refine wa_iload_n (pc := 9) (y := mX6_unset) dX6_unset_9 rfl ?_
        refine wa_callS (pc := 10) (s_X6_isChannel (d := d - 1) (by omega)) dX6_unset_10 okX6_isChannel q2810 q2811 rfl rfl (Nat.le_of_ble_eq_true rfl) (Nat.le_of_ble_eq_true rfl) (by omega) ?_
        rintro _ _ - - ⟨rfl, rfl⟩
        refine aft_v (pc2 := 13) ?_ rfl
        rw [inb11, decide_eq_true e0]
        refine wa_if_eq (pc := 13) 20 dX6_unset_13 rfl (fun hb13 => absurd hb13 (by decide)) (fun hb13 => ?_)
        refine wa_iconst (pc := 16) (y := mX6_unset) (Int32.ofNat 0) dX6_unset_16 rfl ?_
        refine wa_goto (pc := 17) (y := mX6_unset) 21 dX6_unset_17 rfl ?_
        refine wa_putf (pc := 21) (y := mX6_unset) (k := 5) 7 .int dX6_unset_21 mH_o rfl q2650 (Or.inl rfl) (Nat.le_of_ble_eq_true rfl) rfl (by decide +kernel) rfl rfl ?_
        rw [mW_o7]
        first | refine wa_aload_n (pc := 24) (y := mX6_unset) dX6_unset_24 rfl ?_ | refine wa_aload_nN (pc := 24) (y := mX6_unset) dX6_unset_24 rfl ?_ | refine wa_aload_nq (pc := 24) (y := mX6_unset) dX6_unset_24 rfl ?_
        refine wa_getf (pc := 25) (y := mX6_unset) (k := 5) 7 dX6_unset_25 mH_o rfl q2650 (Or.inl rfl) (Nat.le_of_ble_eq_true rfl) (by rfl) ?_
        show WA _ _ _ _ _ (.int (Int32.ofNat 0) :: _) _ _
        refine wa_if_le (pc := 28) 33 dX6_unset_28 rfl (fun hb28 => ?_) (fun hb28 => absurd hb28 (by decide))
        clear hb28
        first | refine wa_aload_n (pc := 33) (y := mX6_unset) dX6_unset_33 rfl ?_ | refine wa_aload_nN (pc := 33) (y := mX6_unset) dX6_unset_33 rfl ?_ | refine wa_aload_nq (pc := 33) (y := mX6_unset) dX6_unset_33 rfl ?_
        refine wa_callV (pc := 34) (s_X6_keepState (d := d - 1) (by omega)) dX6_unset_34 okX6_keepState q2707 q2709 qs39 mH_o rfl rfl rfl (Nat.le_of_ble_eq_true rfl) (Nat.le_of_ble_eq_true rfl) (by omega) ?_
        rintro _ _ - - ⟨rfl, rfl⟩
        refine aft_0 (pc2 := 37) ?_ rfl
        first | refine wa_aload_n (pc := 37) (y := mX6_unset) dX6_unset_37 rfl ?_ | refine wa_aload_nN (pc := 37) (y := mX6_unset) dX6_unset_37 rfl ?_ | refine wa_aload_nq (pc := 37) (y := mX6_unset) dX6_unset_37 rfl ?_
        refine wa_iload_n (pc := 38) (y := mX6_unset) dX6_unset_38 rfl ?_
        refine wa_iload_n (pc := 39) (y := mX6_unset) dX6_unset_39 (x := Int32.ofNat (u c)) (by rw [u_self]; rfl) ?_
        refine wa_iload_n (pc := 40) (y := mX6_unset) dX6_unset_40 rfl ?_
        refine wa_callV (pc := 41) (s_X6_takeHeld (d := d - 1) (by omega) hI hp) dX6_unset_41 okX6_takeHeld q2853 q2855 qs61 mH_o rfl rfl rfl (Nat.le_of_ble_eq_true rfl) (Nat.le_of_ble_eq_true rfl) (by omega) ?_
        rintro _ _ - - ⟨rfl, rfl⟩
        refine aft_v (pc2 := 44) ?_ rfl
        refine wa_istore (pc := 44) (y := mX6_unset) dX6_unset_44 (Nat.le_of_ble_eq_true rfl) rfl ?_
        simp only [List.set_cons_zero, List.set_cons_succ]
        refine wa_iload (pc := 46) (y := mX6_unset) dX6_unset_46 rfl ?_
        refine wa_if_le (pc := 48) 65 dX6_unset_48 rfl (fun hb48 => absurd ((iN_pos (Nat.lt_of_le_of_lt hle (by omega))).mp hb48) (Nat.pos_iff_ne_zero.mp e3)) (fun hb48 => ?_)
        first | refine wa_aload_n (pc := 51) (y := mX6_unset) dX6_unset_51 rfl ?_ | refine wa_aload_nN (pc := 51) (y := mX6_unset) dX6_unset_51 rfl ?_ | refine wa_aload_nq (pc := 51) (y := mX6_unset) dX6_unset_51 rfl ?_
        refine wa_iload (pc := 52) (y := mX6_unset) dX6_unset_52 rfl ?_
        refine wa_callV (pc := 54) (s_X6_refuse (d := d - 1) (by omega)) dX6_unset_54 okX6_refuse q2837 q2839 qs59 mH_o rfl rfl rfl (Nat.le_of_ble_eq_true rfl) (Nat.le_of_ble_eq_true rfl) (by omega) ?_
        rintro _ _ - - ⟨rfl, rfl⟩
        refine aft_v (pc2 := 57) ?_ rfl
        refine wa_pop (pc := 57) (y := mX6_unset) dX6_unset_57 rfl ?_
        first | refine wa_aload_n (pc := 58) (y := mX6_unset) dX6_unset_58 rfl ?_ | refine wa_aload_nN (pc := 58) (y := mX6_unset) dX6_unset_58 rfl ?_ | refine wa_aload_nq (pc := 58) (y := mX6_unset) dX6_unset_58 rfl ?_
        refine wa_iconst (pc := 59) (y := mX6_unset) (Int32.ofNat 2) dX6_unset_59 rfl ?_
        refine wa_putf (pc := 60) (y := mX6_unset) (k := 5) 7 .int dX6_unset_60 mH_o rfl q2650 (Or.inl rfl) (Nat.le_of_ble_eq_true rfl) rfl (by decide +kernel) rfl rfl ?_
        rw [mW_o7]
        refine wa_iconst (pc := 63) (y := mX6_unset) (Int32.ofNat 0) dX6_unset_63 rfl ?_
        exact wa_ireturn (pc := 64) (y := mX6_unset) .int dX6_unset_64 rfl rfl ⟨rfl, rfl⟩
      · rw [show dTk f (mA (mV σ 7 (Int32.ofNat 0)) 1 f) cue p (u c) b = (0, (tkH f (σ.1 8) cue p (u c) b).2.1, mA (mA (mV σ 7 (Int32.ofNat 0)) 1 f) 8 (tkH f (σ.1 8) cue p (u c) b).2.2) from if_neg e3, show ∀ g, oG f σ (u c) 2 (0, g) = (0, smN (chgG g.1 (g.2.1 8) (u c)) (u (g.1 0)), g.1, chg g.2) from fun g => if_neg (Nat.lt_irrefl 0)]
        have hgI : Inv (tkH f (σ.1 8) cue p (u c) b).2.1 := tkH_inv hI
        first | refine wa_aload_n (pc := 0) (y := mX6_unset) dX6_unset_0 rfl ?_ | refine wa_aload_nN (pc := 0) (y := mX6_unset) dX6_unset_0 rfl ?_ | refine wa_aload_nq (pc := 0) (y := mX6_unset) dX6_unset_0 rfl ?_
        first | refine wa_aload_n (pc := 1) (y := mX6_unset) dX6_unset_1 rfl ?_ | refine wa_aload_nN (pc := 1) (y := mX6_unset) dX6_unset_1 rfl ?_ | refine wa_aload_nq (pc := 1) (y := mX6_unset) dX6_unset_1 rfl ?_
        refine wa_iload_n (pc := 2) (y := mX6_unset) dX6_unset_2 rfl ?_
        refine wa_callV (pc := 3) (s_X6_isCue (d := d - 1) (by omega) hI) dX6_unset_3 okX6_isCue q2719 q2721 qs41 mH_o rfl rfl rfl (Nat.le_of_ble_eq_true rfl) (Nat.le_of_ble_eq_true rfl) (by omega) ?_
        rintro _ _ - - ⟨rfl, rfl⟩
        refine aft_v (pc2 := 6) ?_ rfl
        rw [isC_some hp]
        refine wa_if_eq (pc := 6) 20 dX6_unset_6 rfl (fun hb6 => absurd hb6 (by decide)) (fun hb6 => ?_)
        refine wa_iload_n (pc := 9) (y := mX6_unset) dX6_unset_9 rfl ?_
        refine wa_callS (pc := 10) (s_X6_isChannel (d := d - 1) (by omega)) dX6_unset_10 okX6_isChannel q2810 q2811 rfl rfl (Nat.le_of_ble_eq_true rfl) (Nat.le_of_ble_eq_true rfl) (by omega) ?_
        rintro _ _ - - ⟨rfl, rfl⟩
        refine aft_v (pc2 := 13) ?_ rfl
        rw [inb11, decide_eq_true e0]
        refine wa_if_eq (pc := 13) 20 dX6_unset_13 rfl (fun hb13 => absurd hb13 (by decide)) (fun hb13 => ?_)
        refine wa_iconst (pc := 16) (y := mX6_unset) (Int32.ofNat 0) dX6_unset_16 rfl ?_
        refine wa_goto (pc := 17) (y := mX6_unset) 21 dX6_unset_17 rfl ?_
        refine wa_putf (pc := 21) (y := mX6_unset) (k := 5) 7 .int dX6_unset_21 mH_o rfl q2650 (Or.inl rfl) (Nat.le_of_ble_eq_true rfl) rfl (by decide +kernel) rfl rfl ?_
        rw [mW_o7]
        first | refine wa_aload_n (pc := 24) (y := mX6_unset) dX6_unset_24 rfl ?_ | refine wa_aload_nN (pc := 24) (y := mX6_unset) dX6_unset_24 rfl ?_ | refine wa_aload_nq (pc := 24) (y := mX6_unset) dX6_unset_24 rfl ?_
        refine wa_getf (pc := 25) (y := mX6_unset) (k := 5) 7 dX6_unset_25 mH_o rfl q2650 (Or.inl rfl) (Nat.le_of_ble_eq_true rfl) (by rfl) ?_
        show WA _ _ _ _ _ (.int (Int32.ofNat 0) :: _) _ _
        refine wa_if_le (pc := 28) 33 dX6_unset_28 rfl (fun hb28 => ?_) (fun hb28 => absurd hb28 (by decide))
        clear hb28
        first | refine wa_aload_n (pc := 33) (y := mX6_unset) dX6_unset_33 rfl ?_ | refine wa_aload_nN (pc := 33) (y := mX6_unset) dX6_unset_33 rfl ?_ | refine wa_aload_nq (pc := 33) (y := mX6_unset) dX6_unset_33 rfl ?_
        refine wa_callV (pc := 34) (s_X6_keepState (d := d - 1) (by omega)) dX6_unset_34 okX6_keepState q2707 q2709 qs39 mH_o rfl rfl rfl (Nat.le_of_ble_eq_true rfl) (Nat.le_of_ble_eq_true rfl) (by omega) ?_
        rintro _ _ - - ⟨rfl, rfl⟩
        refine aft_0 (pc2 := 37) ?_ rfl
        first | refine wa_aload_n (pc := 37) (y := mX6_unset) dX6_unset_37 rfl ?_ | refine wa_aload_nN (pc := 37) (y := mX6_unset) dX6_unset_37 rfl ?_ | refine wa_aload_nq (pc := 37) (y := mX6_unset) dX6_unset_37 rfl ?_
        refine wa_iload_n (pc := 38) (y := mX6_unset) dX6_unset_38 rfl ?_
        refine wa_iload_n (pc := 39) (y := mX6_unset) dX6_unset_39 (x := Int32.ofNat (u c)) (by rw [u_self]; rfl) ?_
        refine wa_iload_n (pc := 40) (y := mX6_unset) dX6_unset_40 rfl ?_
        refine wa_callV (pc := 41) (s_X6_takeHeld (d := d - 1) (by omega) hI hp) dX6_unset_41 okX6_takeHeld q2853 q2855 qs61 mH_o rfl rfl rfl (Nat.le_of_ble_eq_true rfl) (Nat.le_of_ble_eq_true rfl) (by omega) ?_
        rintro _ _ - - ⟨rfl, rfl⟩
        refine aft_v (pc2 := 44) ?_ rfl
        refine wa_istore (pc := 44) (y := mX6_unset) dX6_unset_44 (Nat.le_of_ble_eq_true rfl) rfl ?_
        simp only [List.set_cons_zero, List.set_cons_succ]
        refine wa_iload (pc := 46) (y := mX6_unset) dX6_unset_46 rfl ?_
        refine wa_if_le (pc := 48) 65 dX6_unset_48 rfl (fun hb48 => ?_) (fun hb48 => absurd ((iN_pos (Nat.lt_of_le_of_lt hle (by omega))).mpr (Nat.eq_zero_of_not_pos e3)) hb48)
        first | refine wa_aload_n (pc := 65) (y := mX6_unset) dX6_unset_65 rfl ?_ | refine wa_aload_nN (pc := 65) (y := mX6_unset) dX6_unset_65 rfl ?_ | refine wa_aload_nq (pc := 65) (y := mX6_unset) dX6_unset_65 rfl ?_
        refine wa_callV (pc := 66) (s_X6_change (d := d - 1) (by omega) hpm) dX6_unset_66 okX6_change q2730 q2732 qs43 mH_o rfl rfl rfl (Nat.le_of_ble_eq_true rfl) (Nat.le_of_ble_eq_true rfl) (by omega) ?_
        rintro _ _ - - ⟨rfl, rfl⟩
        refine aft_0 (pc2 := 69) ?_ rfl
        first | refine wa_aload_n (pc := 69) (y := mX6_unset) dX6_unset_69 rfl ?_ | refine wa_aload_nN (pc := 69) (y := mX6_unset) dX6_unset_69 rfl ?_ | refine wa_aload_nq (pc := 69) (y := mX6_unset) dX6_unset_69 rfl ?_
        refine wa_iload_n (pc := 70) (y := mX6_unset) dX6_unset_70 (x := Int32.ofNat (u c)) (by rw [u_self]; rfl) ?_
        refine wa_callV (pc := 71) (s_X6_changed (d := d - 1) (by omega) hgI e0) dX6_unset_71 okX6_changed q2841 q2843 qs60 mH_o rfl rfl rfl (Nat.le_of_ble_eq_true rfl) (Nat.le_of_ble_eq_true rfl) (by omega) ?_
        rintro _ _ - - ⟨rfl, rfl⟩
        refine aft_v (pc2 := 74) ?_ rfl
        exact wa_ireturn (pc := 74) (y := mX6_unset) .int dX6_unset_74 rfl rfl ⟨rfl, rfl⟩
    · rw [show O_unset f σ cue c b = oX f σ 1 by unfold O_unset; rw [hp]; exact if_pos e0]
      first | refine wa_aload_n (pc := 0) (y := mX6_unset) dX6_unset_0 rfl ?_ | refine wa_aload_nN (pc := 0) (y := mX6_unset) dX6_unset_0 rfl ?_ | refine wa_aload_nq (pc := 0) (y := mX6_unset) dX6_unset_0 rfl ?_
      first | refine wa_aload_n (pc := 1) (y := mX6_unset) dX6_unset_1 rfl ?_ | refine wa_aload_nN (pc := 1) (y := mX6_unset) dX6_unset_1 rfl ?_ | refine wa_aload_nq (pc := 1) (y := mX6_unset) dX6_unset_1 rfl ?_
      refine wa_iload_n (pc := 2) (y := mX6_unset) dX6_unset_2 rfl ?_
      refine wa_callV (pc := 3) (s_X6_isCue (d := d - 1) (by omega) hI) dX6_unset_3 okX6_isCue q2719 q2721 qs41 mH_o rfl rfl rfl (Nat.le_of_ble_eq_true rfl) (Nat.le_of_ble_eq_true rfl) (by omega) ?_
      rintro _ _ - - ⟨rfl, rfl⟩
      refine aft_v (pc2 := 6) ?_ rfl
      rw [isC_some hp]
      refine wa_if_eq (pc := 6) 20 dX6_unset_6 rfl (fun hb6 => absurd hb6 (by decide)) (fun hb6 => ?_)
      refine wa_iload_n (pc := 9) (y := mX6_unset) dX6_unset_9 rfl ?_
      refine wa_callS (pc := 10) (s_X6_isChannel (d := d - 1) (by omega)) dX6_unset_10 okX6_isChannel q2810 q2811 rfl rfl (Nat.le_of_ble_eq_true rfl) (Nat.le_of_ble_eq_true rfl) (by omega) ?_
      rintro _ _ - - ⟨rfl, rfl⟩
      refine aft_v (pc2 := 13) ?_ rfl
      rw [inb11, decide_eq_false e0]
      refine wa_if_eq (pc := 13) 20 dX6_unset_13 rfl (fun hb13 => ?_) (fun hb13 => absurd rfl hb13)
      refine wa_iconst (pc := 20) (y := mX6_unset) (Int32.ofNat 1) dX6_unset_20 rfl ?_
      refine wa_putf (pc := 21) (y := mX6_unset) (k := 5) 7 .int dX6_unset_21 mH_o rfl q2650 (Or.inl rfl) (Nat.le_of_ble_eq_true rfl) rfl (by decide +kernel) rfl rfl ?_
      rw [mW_o7]
      first | refine wa_aload_n (pc := 24) (y := mX6_unset) dX6_unset_24 rfl ?_ | refine wa_aload_nN (pc := 24) (y := mX6_unset) dX6_unset_24 rfl ?_ | refine wa_aload_nq (pc := 24) (y := mX6_unset) dX6_unset_24 rfl ?_
      refine wa_getf (pc := 25) (y := mX6_unset) (k := 5) 7 dX6_unset_25 mH_o rfl q2650 (Or.inl rfl) (Nat.le_of_ble_eq_true rfl) (by rfl) ?_
      show WA _ _ _ _ _ (.int (Int32.ofNat 1) :: _) _ _
      refine wa_if_le (pc := 28) 33 dX6_unset_28 rfl (fun hb28 => absurd hb28 (by decide)) (fun hb28 => ?_)
      clear hb28
      refine wa_iconst (pc := 31) (y := mX6_unset) (Int32.ofNat 0) dX6_unset_31 rfl ?_
      exact wa_ireturn (pc := 32) (y := mX6_unset) .int dX6_unset_32 rfl rfl ⟨rfl, rfl⟩
theorem s_X6_removeCue {cue : Int32} {b : Bool} (hd : 5 ≤ d) (hI : Inv f) (hpm : u (σ.2 5) ≤ 6) : MA G d mX6_removeCue [.ref m, .int cue, .int (bI b)] (mH h m f σ) (fun r h' => r = .inl (some (.int (O_removeCue f σ cue b).2.1)) ∧ h' = mH h m (O_removeCue f σ cue b).2.2.1 (O_removeCue f σ cue b).2.2.2) := by
  show WA _ _ _ 0 [.ref m, .int _, .int _, .retAddr 0] [] _ _
  have hle := dRm_le (f := f) (σ := mA σ 1 f) (cue := cue) (b := b)
  have h5 : u ((mV (dRm f (mA σ 1 f) cue b).2.2 7 (Int32.ofNat 0)).2 5) ≤ 6 := by
    show u ((dRm f (mA σ 1 f) cue b).2.2.2 5) ≤ 6
    rw [dRm_5]
    exact hpm
  by_cases e : 0 < (dRm f (mA σ 1 f) cue b).1
  · rw [show O_removeCue f σ cue b = _ from if_pos e]
    first | refine wa_aload_n (pc := 0) (y := mX6_removeCue) dX6_removeCue_0 rfl ?_ | refine wa_aload_nN (pc := 0) (y := mX6_removeCue) dX6_removeCue_0 rfl ?_ | refine wa_aload_nq (pc := 0) (y := mX6_removeCue) dX6_removeCue_0 rfl ?_
    refine wa_iload_n (pc := 1) (y := mX6_removeCue) dX6_removeCue_1 rfl ?_
    refine wa_callV (pc := 2) (s_X6_countOf (d := d - 1) (by omega) hI) dX6_removeCue_2 okX6_countOf q2789 q2791 qs50 mH_o rfl rfl rfl (Nat.le_of_ble_eq_true rfl) (Nat.le_of_ble_eq_true rfl) (by omega) ?_
    rintro _ _ - - ⟨rfl, rfl⟩
    refine aft_v (pc2 := 5) ?_ rfl
    refine wa_istore_n (pc := 5) (y := mX6_removeCue) dX6_removeCue_5 (Nat.le_of_ble_eq_true rfl) rfl ?_
    change WA _ _ _ _ (List.set _ 3 _) _ _ _
    simp only [List.set_cons_zero, List.set_cons_succ]
    first | refine wa_aload_n (pc := 6) (y := mX6_removeCue) dX6_removeCue_6 rfl ?_ | refine wa_aload_nN (pc := 6) (y := mX6_removeCue) dX6_removeCue_6 rfl ?_ | refine wa_aload_nq (pc := 6) (y := mX6_removeCue) dX6_removeCue_6 rfl ?_
    refine wa_callV (pc := 7) (s_X6_keepState (d := d - 1) (by omega)) dX6_removeCue_7 okX6_keepState q2707 q2709 qs39 mH_o rfl rfl rfl (Nat.le_of_ble_eq_true rfl) (Nat.le_of_ble_eq_true rfl) (by omega) ?_
    rintro _ _ - - ⟨rfl, rfl⟩
    refine aft_0 (pc2 := 10) ?_ rfl
    first | refine wa_aload_n (pc := 10) (y := mX6_removeCue) dX6_removeCue_10 rfl ?_ | refine wa_aload_nN (pc := 10) (y := mX6_removeCue) dX6_removeCue_10 rfl ?_ | refine wa_aload_nq (pc := 10) (y := mX6_removeCue) dX6_removeCue_10 rfl ?_
    first | refine wa_aload_n (pc := 11) (y := mX6_removeCue) dX6_removeCue_11 rfl ?_ | refine wa_aload_nN (pc := 11) (y := mX6_removeCue) dX6_removeCue_11 rfl ?_ | refine wa_aload_nq (pc := 11) (y := mX6_removeCue) dX6_removeCue_11 rfl ?_
    refine wa_iload_n (pc := 12) (y := mX6_removeCue) dX6_removeCue_12 rfl ?_
    refine wa_iload_n (pc := 13) (y := mX6_removeCue) dX6_removeCue_13 rfl ?_
    refine wa_callV (pc := 14) (s_X6_doRemove (d := d - 1) (by omega) hI) dX6_removeCue_14 okX6_doRemove q2865 q2867 qs63 mH_o rfl rfl rfl (Nat.le_of_ble_eq_true rfl) (Nat.le_of_ble_eq_true rfl) (by omega) ?_
    rintro _ _ - - ⟨rfl, rfl⟩
    refine aft_v (pc2 := 17) ?_ rfl
    refine wa_putf (pc := 17) (y := mX6_removeCue) (k := 5) 7 .int dX6_removeCue_17 mH_o rfl q2650 (Or.inl rfl) (Nat.le_of_ble_eq_true rfl) rfl (by decide +kernel) rfl rfl ?_
    rw [mW_o7]
    first | refine wa_aload_n (pc := 20) (y := mX6_removeCue) dX6_removeCue_20 rfl ?_ | refine wa_aload_nN (pc := 20) (y := mX6_removeCue) dX6_removeCue_20 rfl ?_ | refine wa_aload_nq (pc := 20) (y := mX6_removeCue) dX6_removeCue_20 rfl ?_
    refine wa_getf (pc := 21) (y := mX6_removeCue) (k := 5) 7 dX6_removeCue_21 mH_o rfl q2650 (Or.inl rfl) (Nat.le_of_ble_eq_true rfl) (by rfl) ?_
    rw [mV_s]
    refine wa_if_le (pc := 24) 29 dX6_removeCue_24 rfl (fun hb24 => absurd ((iN_pos (by omega)).mp hb24) (by omega)) (fun hb24 => ?_)
    refine wa_iconst (pc := 27) (y := mX6_removeCue) (Int32.ofNat 0) dX6_removeCue_27 rfl ?_
    exact wa_ireturn (pc := 28) (y := mX6_removeCue) .int dX6_removeCue_28 rfl rfl ⟨rfl, rfl⟩
  · rw [show O_removeCue f σ cue b = _ from if_neg e]
    have e0 : (dRm f (mA σ 1 f) cue b).1 = 0 := by omega
    first | refine wa_aload_n (pc := 0) (y := mX6_removeCue) dX6_removeCue_0 rfl ?_ | refine wa_aload_nN (pc := 0) (y := mX6_removeCue) dX6_removeCue_0 rfl ?_ | refine wa_aload_nq (pc := 0) (y := mX6_removeCue) dX6_removeCue_0 rfl ?_
    refine wa_iload_n (pc := 1) (y := mX6_removeCue) dX6_removeCue_1 rfl ?_
    refine wa_callV (pc := 2) (s_X6_countOf (d := d - 1) (by omega) hI) dX6_removeCue_2 okX6_countOf q2789 q2791 qs50 mH_o rfl rfl rfl (Nat.le_of_ble_eq_true rfl) (Nat.le_of_ble_eq_true rfl) (by omega) ?_
    rintro _ _ - - ⟨rfl, rfl⟩
    refine aft_v (pc2 := 5) ?_ rfl
    refine wa_istore_n (pc := 5) (y := mX6_removeCue) dX6_removeCue_5 (Nat.le_of_ble_eq_true rfl) rfl ?_
    change WA _ _ _ _ (List.set _ 3 _) _ _ _
    simp only [List.set_cons_zero, List.set_cons_succ]
    first | refine wa_aload_n (pc := 6) (y := mX6_removeCue) dX6_removeCue_6 rfl ?_ | refine wa_aload_nN (pc := 6) (y := mX6_removeCue) dX6_removeCue_6 rfl ?_ | refine wa_aload_nq (pc := 6) (y := mX6_removeCue) dX6_removeCue_6 rfl ?_
    refine wa_callV (pc := 7) (s_X6_keepState (d := d - 1) (by omega)) dX6_removeCue_7 okX6_keepState q2707 q2709 qs39 mH_o rfl rfl rfl (Nat.le_of_ble_eq_true rfl) (Nat.le_of_ble_eq_true rfl) (by omega) ?_
    rintro _ _ - - ⟨rfl, rfl⟩
    refine aft_0 (pc2 := 10) ?_ rfl
    first | refine wa_aload_n (pc := 10) (y := mX6_removeCue) dX6_removeCue_10 rfl ?_ | refine wa_aload_nN (pc := 10) (y := mX6_removeCue) dX6_removeCue_10 rfl ?_ | refine wa_aload_nq (pc := 10) (y := mX6_removeCue) dX6_removeCue_10 rfl ?_
    first | refine wa_aload_n (pc := 11) (y := mX6_removeCue) dX6_removeCue_11 rfl ?_ | refine wa_aload_nN (pc := 11) (y := mX6_removeCue) dX6_removeCue_11 rfl ?_ | refine wa_aload_nq (pc := 11) (y := mX6_removeCue) dX6_removeCue_11 rfl ?_
    refine wa_iload_n (pc := 12) (y := mX6_removeCue) dX6_removeCue_12 rfl ?_
    refine wa_iload_n (pc := 13) (y := mX6_removeCue) dX6_removeCue_13 rfl ?_
    refine wa_callV (pc := 14) (s_X6_doRemove (d := d - 1) (by omega) hI) dX6_removeCue_14 okX6_doRemove q2865 q2867 qs63 mH_o rfl rfl rfl (Nat.le_of_ble_eq_true rfl) (Nat.le_of_ble_eq_true rfl) (by omega) ?_
    rintro _ _ - - ⟨rfl, rfl⟩
    refine aft_v (pc2 := 17) ?_ rfl
    rw [e0]
    refine wa_putf (pc := 17) (y := mX6_removeCue) (k := 5) 7 .int dX6_removeCue_17 mH_o rfl q2650 (Or.inl rfl) (Nat.le_of_ble_eq_true rfl) rfl (by decide +kernel) rfl rfl ?_
    rw [mW_o7]
    first | refine wa_aload_n (pc := 20) (y := mX6_removeCue) dX6_removeCue_20 rfl ?_ | refine wa_aload_nN (pc := 20) (y := mX6_removeCue) dX6_removeCue_20 rfl ?_ | refine wa_aload_nq (pc := 20) (y := mX6_removeCue) dX6_removeCue_20 rfl ?_
    refine wa_getf (pc := 21) (y := mX6_removeCue) (k := 5) 7 dX6_removeCue_21 mH_o rfl q2650 (Or.inl rfl) (Nat.le_of_ble_eq_true rfl) (by rfl) ?_
    rw [mV_s]
    refine wa_if_le (pc := 24) 29 dX6_removeCue_24 rfl (fun hb24 => ?_) (fun hb24 => absurd (by decide) hb24)
    first | refine wa_aload_n (pc := 29) (y := mX6_removeCue) dX6_removeCue_29 rfl ?_ | refine wa_aload_nN (pc := 29) (y := mX6_removeCue) dX6_removeCue_29 rfl ?_ | refine wa_aload_nq (pc := 29) (y := mX6_removeCue) dX6_removeCue_29 rfl ?_
    refine wa_callV (pc := 30) (s_X6_change (d := d - 1) (by omega) h5) dX6_removeCue_30 okX6_change q2730 q2732 qs43 mH_o rfl rfl rfl (Nat.le_of_ble_eq_true rfl) (Nat.le_of_ble_eq_true rfl) (by omega) ?_
    rintro _ _ - - ⟨rfl, rfl⟩
    refine aft_0 (pc2 := 33) ?_ rfl
    refine wa_iload_n (pc := 33) (y := mX6_removeCue) dX6_removeCue_33 rfl ?_
    exact wa_ireturn (pc := 34) (y := mX6_removeCue) .int dX6_removeCue_34 rfl rfl ⟨rfl, rfl⟩
theorem s_X6_instruction {i w : Int32} (hd : 1 ≤ d) (hI : Inv f) : MA G d mX6_instruction [.ref m, .int i, .int w] (mH h m f σ) (fun r h' => r = .inl (some (.int (O_instruction f σ i w).2.1)) ∧ h' = mH h m (O_instruction f σ i w).2.2.1 (O_instruction f σ i w).2.2.2) := by
  have hn := hI.2.1
  show WA _ _ _ 0 [.ref m, .int _, .int _] [] _ _
  by_cases e : u i < u (f 1)
  · by_cases e2 : u w < 4
    · rw [show O_instruction f σ i w = _ from (if_neg (fun x => x e)).trans (if_neg (fun x => x e2))]
      first | refine wa_aload_n (pc := 0) (y := mX6_instruction) dX6_instruction_0 rfl ?_ | refine wa_aload_nN (pc := 0) (y := mX6_instruction) dX6_instruction_0 rfl ?_ | refine wa_aload_nq (pc := 0) (y := mX6_instruction) dX6_instruction_0 rfl ?_
      refine wa_iload_n (pc := 1) (y := mX6_instruction) dX6_instruction_1 rfl ?_
      refine wa_iconst (pc := 2) (y := mX6_instruction) (Int32.ofNat 0) dX6_instruction_2 rfl ?_
      first | refine wa_aload_n (pc := 3) (y := mX6_instruction) dX6_instruction_3 rfl ?_ | refine wa_aload_nN (pc := 3) (y := mX6_instruction) dX6_instruction_3 rfl ?_ | refine wa_aload_nq (pc := 3) (y := mX6_instruction) dX6_instruction_3 rfl ?_
      refine wa_getf (pc := 4) (y := mX6_instruction) (k := 5) 0 dX6_instruction_4 mH_o rfl q2643 (Or.inl rfl) (Nat.le_of_ble_eq_true rfl) (by rfl) ?_
      refine wa_iconst (pc := 7) (y := mX6_instruction) (Int32.ofNat 1) dX6_instruction_7 rfl ?_
      refine wa_ialoadU (pc := 8) (y := mX6_instruction) dX6_instruction_8 mH_1 (by omega) ?_
      refine wa_iconst (pc := 9) (y := mX6_instruction) (Int32.ofNat 1) dX6_instruction_9 rfl ?_
      refine wa_isub (pc := 10) (y := mX6_instruction) dX6_instruction_10 ?_
      refine wa_callS (pc := 11) (s_X6_in (d := d - 1)) dX6_instruction_11 okX6_in q2716 q2717 rfl rfl (Nat.le_of_ble_eq_true rfl) (Nat.le_of_ble_eq_true rfl) (by omega) ?_
      rintro _ _ - - ⟨rfl, rfl⟩
      refine aft_v (pc2 := 14) ?_ rfl
      rw [show inb i (Int32.ofNat 0) (Int32.ofNat (u (f 1)) - Int32.ofNat 1) = true from (inb_lt (by omega)).trans (decide_eq_true e)]
      refine wa_if_ne (pc := 14) 21 dX6_instruction_14 rfl (fun hb14 => ?_) (fun hb14 => absurd hb14 (by decide))
      refine wa_iload_n (pc := 21) (y := mX6_instruction) dX6_instruction_21 rfl ?_
      refine wa_iconst (pc := 22) (y := mX6_instruction) (Int32.ofNat 0) dX6_instruction_22 rfl ?_
      refine wa_iconst (pc := 23) (y := mX6_instruction) (Int32.ofNat 3) dX6_instruction_23 rfl ?_
      refine wa_callS (pc := 24) (s_X6_in (d := d - 1)) dX6_instruction_24 okX6_in q2716 q2717 rfl rfl (Nat.le_of_ble_eq_true rfl) (Nat.le_of_ble_eq_true rfl) (by omega) ?_
      rintro _ _ - - ⟨rfl, rfl⟩
      refine aft_v (pc2 := 27) ?_ rfl
      rw [show inb w (Int32.ofNat 0) (Int32.ofNat 3) = true from (inb3 w).trans (decide_eq_true e2)]
      refine wa_if_ne (pc := 27) 34 dX6_instruction_27 rfl (fun hb27 => ?_) (fun hb27 => absurd hb27 (by decide))
      refine wa_iconst (pc := 34) (y := mX6_instruction) (Int32.ofNat 0) dX6_instruction_34 rfl ?_
      refine wa_putf (pc := 35) (y := mX6_instruction) (k := 5) 7 .int dX6_instruction_35 mH_o rfl q2650 (Or.inl rfl) (Nat.le_of_ble_eq_true rfl) rfl (by decide +kernel) rfl rfl ?_
      rw [mW_o7]
      first | refine wa_aload_n (pc := 38) (y := mX6_instruction) dX6_instruction_38 rfl ?_ | refine wa_aload_nN (pc := 38) (y := mX6_instruction) dX6_instruction_38 rfl ?_ | refine wa_aload_nq (pc := 38) (y := mX6_instruction) dX6_instruction_38 rfl ?_
      refine wa_getf (pc := 39) (y := mX6_instruction) (k := 5) 7 dX6_instruction_39 mH_o rfl q2650 (Or.inl rfl) (Nat.le_of_ble_eq_true rfl) (by rfl) ?_
      show WA _ _ _ _ _ (.int (Int32.ofNat 0) :: _) _ _
      refine wa_if_le (pc := 42) 49 dX6_instruction_42 rfl (fun hb42 => ?_) (fun hb42 => absurd hb42 (by decide))
      clear hb42
      first | refine wa_aload_n (pc := 49) (y := mX6_instruction) dX6_instruction_49 rfl ?_ | refine wa_aload_nN (pc := 49) (y := mX6_instruction) dX6_instruction_49 rfl ?_ | refine wa_aload_nq (pc := 49) (y := mX6_instruction) dX6_instruction_49 rfl ?_
      refine wa_getf (pc := 50) (y := mX6_instruction) (k := 5) 0 dX6_instruction_50 mH_o rfl q2643 (Or.inl rfl) (Nat.le_of_ble_eq_true rfl) (by rfl) ?_
      refine wa_sipush (pc := 53) (y := mX6_instruction) (Int32.ofNat 162) dX6_instruction_53 rfl ?_
      refine wa_iconst (pc := 56) (y := mX6_instruction) (Int32.ofNat 4) dX6_instruction_56 rfl ?_
      refine wa_iload_n (pc := 57) (y := mX6_instruction) dX6_instruction_57 (x := Int32.ofNat (u i)) (by rw [u_self]; rfl) ?_
      first | with_reducible refine wa_imulN (pc := 58) (y := mX6_instruction) dX6_instruction_58 ?_ | refine wa_imul (pc := 58) (y := mX6_instruction) dX6_instruction_58 ?_
      first | with_reducible refine wa_iaddN (pc := 59) (y := mX6_instruction) dX6_instruction_59 ?_ | refine wa_iadd (pc := 59) (y := mX6_instruction) dX6_instruction_59 ?_
      refine wa_iload_n (pc := 60) (y := mX6_instruction) dX6_instruction_60 (x := Int32.ofNat (u w)) (by rw [u_self]; rfl) ?_
      first | with_reducible refine wa_iaddN (pc := 61) (y := mX6_instruction) dX6_instruction_61 ?_ | refine wa_iadd (pc := 61) (y := mX6_instruction) dX6_instruction_61 ?_
      refine wa_ialoadN (pc := 62) (y := mX6_instruction) dX6_instruction_62 mH_1 (by omega) ?_
      exact wa_ireturn (pc := 63) (y := mX6_instruction) .int dX6_instruction_63 rfl rfl ⟨rfl, rfl⟩
    · rw [show O_instruction f σ i w = _ from (if_neg (fun x => x e)).trans (if_pos e2)]
      first | refine wa_aload_n (pc := 0) (y := mX6_instruction) dX6_instruction_0 rfl ?_ | refine wa_aload_nN (pc := 0) (y := mX6_instruction) dX6_instruction_0 rfl ?_ | refine wa_aload_nq (pc := 0) (y := mX6_instruction) dX6_instruction_0 rfl ?_
      refine wa_iload_n (pc := 1) (y := mX6_instruction) dX6_instruction_1 rfl ?_
      refine wa_iconst (pc := 2) (y := mX6_instruction) (Int32.ofNat 0) dX6_instruction_2 rfl ?_
      first | refine wa_aload_n (pc := 3) (y := mX6_instruction) dX6_instruction_3 rfl ?_ | refine wa_aload_nN (pc := 3) (y := mX6_instruction) dX6_instruction_3 rfl ?_ | refine wa_aload_nq (pc := 3) (y := mX6_instruction) dX6_instruction_3 rfl ?_
      refine wa_getf (pc := 4) (y := mX6_instruction) (k := 5) 0 dX6_instruction_4 mH_o rfl q2643 (Or.inl rfl) (Nat.le_of_ble_eq_true rfl) (by rfl) ?_
      refine wa_iconst (pc := 7) (y := mX6_instruction) (Int32.ofNat 1) dX6_instruction_7 rfl ?_
      refine wa_ialoadU (pc := 8) (y := mX6_instruction) dX6_instruction_8 mH_1 (by omega) ?_
      refine wa_iconst (pc := 9) (y := mX6_instruction) (Int32.ofNat 1) dX6_instruction_9 rfl ?_
      refine wa_isub (pc := 10) (y := mX6_instruction) dX6_instruction_10 ?_
      refine wa_callS (pc := 11) (s_X6_in (d := d - 1)) dX6_instruction_11 okX6_in q2716 q2717 rfl rfl (Nat.le_of_ble_eq_true rfl) (Nat.le_of_ble_eq_true rfl) (by omega) ?_
      rintro _ _ - - ⟨rfl, rfl⟩
      refine aft_v (pc2 := 14) ?_ rfl
      rw [show inb i (Int32.ofNat 0) (Int32.ofNat (u (f 1)) - Int32.ofNat 1) = true from (inb_lt (by omega)).trans (decide_eq_true e)]
      refine wa_if_ne (pc := 14) 21 dX6_instruction_14 rfl (fun hb14 => ?_) (fun hb14 => absurd hb14 (by decide))
      refine wa_iload_n (pc := 21) (y := mX6_instruction) dX6_instruction_21 rfl ?_
      refine wa_iconst (pc := 22) (y := mX6_instruction) (Int32.ofNat 0) dX6_instruction_22 rfl ?_
      refine wa_iconst (pc := 23) (y := mX6_instruction) (Int32.ofNat 3) dX6_instruction_23 rfl ?_
      refine wa_callS (pc := 24) (s_X6_in (d := d - 1)) dX6_instruction_24 okX6_in q2716 q2717 rfl rfl (Nat.le_of_ble_eq_true rfl) (Nat.le_of_ble_eq_true rfl) (by omega) ?_
      rintro _ _ - - ⟨rfl, rfl⟩
      refine aft_v (pc2 := 27) ?_ rfl
      rw [show inb w (Int32.ofNat 0) (Int32.ofNat 3) = false from (inb3 w).trans (decide_eq_false e2)]
      refine wa_if_ne (pc := 27) 34 dX6_instruction_27 rfl (fun hb27 => absurd rfl hb27) (fun hb27 => ?_)
      refine wa_iconst (pc := 30) (y := mX6_instruction) (Int32.ofNat 2) dX6_instruction_30 rfl ?_
      refine wa_goto (pc := 31) (y := mX6_instruction) 35 dX6_instruction_31 rfl ?_
      refine wa_putf (pc := 35) (y := mX6_instruction) (k := 5) 7 .int dX6_instruction_35 mH_o rfl q2650 (Or.inl rfl) (Nat.le_of_ble_eq_true rfl) rfl (by decide +kernel) rfl rfl ?_
      rw [mW_o7]
      first | refine wa_aload_n (pc := 38) (y := mX6_instruction) dX6_instruction_38 rfl ?_ | refine wa_aload_nN (pc := 38) (y := mX6_instruction) dX6_instruction_38 rfl ?_ | refine wa_aload_nq (pc := 38) (y := mX6_instruction) dX6_instruction_38 rfl ?_
      refine wa_getf (pc := 39) (y := mX6_instruction) (k := 5) 7 dX6_instruction_39 mH_o rfl q2650 (Or.inl rfl) (Nat.le_of_ble_eq_true rfl) (by rfl) ?_
      show WA _ _ _ _ _ (.int (Int32.ofNat 2) :: _) _ _
      refine wa_if_le (pc := 42) 49 dX6_instruction_42 rfl (fun hb42 => absurd hb42 (by decide)) (fun hb42 => ?_)
      clear hb42
      refine wa_iconst (pc := 45) (y := mX6_instruction) (Int32.ofNat 0) dX6_instruction_45 rfl ?_
      refine wa_goto (pc := 46) (y := mX6_instruction) 63 dX6_instruction_46 rfl ?_
      exact wa_ireturn (pc := 63) (y := mX6_instruction) .int dX6_instruction_63 rfl rfl ⟨rfl, rfl⟩
  · rw [show O_instruction f σ i w = _ from if_pos e]
    first | refine wa_aload_n (pc := 0) (y := mX6_instruction) dX6_instruction_0 rfl ?_ | refine wa_aload_nN (pc := 0) (y := mX6_instruction) dX6_instruction_0 rfl ?_ | refine wa_aload_nq (pc := 0) (y := mX6_instruction) dX6_instruction_0 rfl ?_
    refine wa_iload_n (pc := 1) (y := mX6_instruction) dX6_instruction_1 rfl ?_
    refine wa_iconst (pc := 2) (y := mX6_instruction) (Int32.ofNat 0) dX6_instruction_2 rfl ?_
    first | refine wa_aload_n (pc := 3) (y := mX6_instruction) dX6_instruction_3 rfl ?_ | refine wa_aload_nN (pc := 3) (y := mX6_instruction) dX6_instruction_3 rfl ?_ | refine wa_aload_nq (pc := 3) (y := mX6_instruction) dX6_instruction_3 rfl ?_
    refine wa_getf (pc := 4) (y := mX6_instruction) (k := 5) 0 dX6_instruction_4 mH_o rfl q2643 (Or.inl rfl) (Nat.le_of_ble_eq_true rfl) (by rfl) ?_
    refine wa_iconst (pc := 7) (y := mX6_instruction) (Int32.ofNat 1) dX6_instruction_7 rfl ?_
    refine wa_ialoadU (pc := 8) (y := mX6_instruction) dX6_instruction_8 mH_1 (by omega) ?_
    refine wa_iconst (pc := 9) (y := mX6_instruction) (Int32.ofNat 1) dX6_instruction_9 rfl ?_
    refine wa_isub (pc := 10) (y := mX6_instruction) dX6_instruction_10 ?_
    refine wa_callS (pc := 11) (s_X6_in (d := d - 1)) dX6_instruction_11 okX6_in q2716 q2717 rfl rfl (Nat.le_of_ble_eq_true rfl) (Nat.le_of_ble_eq_true rfl) (by omega) ?_
    rintro _ _ - - ⟨rfl, rfl⟩
    refine aft_v (pc2 := 14) ?_ rfl
    rw [show inb i (Int32.ofNat 0) (Int32.ofNat (u (f 1)) - Int32.ofNat 1) = false from (inb_lt (by omega)).trans (decide_eq_false e)]
    refine wa_if_ne (pc := 14) 21 dX6_instruction_14 rfl (fun hb14 => absurd rfl hb14) (fun hb14 => ?_)
    refine wa_iconst (pc := 17) (y := mX6_instruction) (Int32.ofNat 1) dX6_instruction_17 rfl ?_
    refine wa_goto (pc := 18) (y := mX6_instruction) 35 dX6_instruction_18 rfl ?_
    refine wa_putf (pc := 35) (y := mX6_instruction) (k := 5) 7 .int dX6_instruction_35 mH_o rfl q2650 (Or.inl rfl) (Nat.le_of_ble_eq_true rfl) rfl (by decide +kernel) rfl rfl ?_
    rw [mW_o7]
    first | refine wa_aload_n (pc := 38) (y := mX6_instruction) dX6_instruction_38 rfl ?_ | refine wa_aload_nN (pc := 38) (y := mX6_instruction) dX6_instruction_38 rfl ?_ | refine wa_aload_nq (pc := 38) (y := mX6_instruction) dX6_instruction_38 rfl ?_
    refine wa_getf (pc := 39) (y := mX6_instruction) (k := 5) 7 dX6_instruction_39 mH_o rfl q2650 (Or.inl rfl) (Nat.le_of_ble_eq_true rfl) (by rfl) ?_
    show WA _ _ _ _ _ (.int (Int32.ofNat 1) :: _) _ _
    refine wa_if_le (pc := 42) 49 dX6_instruction_42 rfl (fun hb42 => absurd hb42 (by decide)) (fun hb42 => ?_)
    clear hb42
    refine wa_iconst (pc := 45) (y := mX6_instruction) (Int32.ofNat 0) dX6_instruction_45 rfl ?_
    refine wa_goto (pc := 46) (y := mX6_instruction) 63 dX6_instruction_46 rfl ?_
    exact wa_ireturn (pc := 63) (y := mX6_instruction) .int dX6_instruction_63 rfl rfl ⟨rfl, rfl⟩
theorem s_X6_level {cue c : Int32} (hd : 3 ≤ d) (hI : Inv f) : MA G d mX6_level [.ref m, .int cue, .int c] (mH h m f σ) (fun r h' => r = .inl (some (.int (O_level f σ cue c).2.1)) ∧ h' = mH h m (O_level f σ cue c).2.2.1 (O_level f σ cue c).2.2.2) := by
  show WA _ _ _ 0 [.ref m, .int _, .int _] [] _ _
  cases hp : pl f cue with
  | none =>
    rw [show O_level f σ cue c = oX f σ 1 by unfold O_level; rw [hp]]
    first | refine wa_aload_n (pc := 0) (y := mX6_level) dX6_level_0 rfl ?_ | refine wa_aload_nN (pc := 0) (y := mX6_level) dX6_level_0 rfl ?_ | refine wa_aload_nq (pc := 0) (y := mX6_level) dX6_level_0 rfl ?_
    first | refine wa_aload_n (pc := 1) (y := mX6_level) dX6_level_1 rfl ?_ | refine wa_aload_nN (pc := 1) (y := mX6_level) dX6_level_1 rfl ?_ | refine wa_aload_nq (pc := 1) (y := mX6_level) dX6_level_1 rfl ?_
    refine wa_iload_n (pc := 2) (y := mX6_level) dX6_level_2 rfl ?_
    refine wa_callV (pc := 3) (s_X6_isCue (d := d - 1) (by omega) hI) dX6_level_3 okX6_isCue q2719 q2721 qs41 mH_o rfl rfl rfl (Nat.le_of_ble_eq_true rfl) (Nat.le_of_ble_eq_true rfl) (by omega) ?_
    rintro _ _ - - ⟨rfl, rfl⟩
    refine aft_v (pc2 := 6) ?_ rfl
    rw [isC_none hp]
    refine wa_if_eq (pc := 6) 20 dX6_level_6 rfl (fun hb6 => ?_) (fun hb6 => absurd rfl hb6)
    refine wa_iconst (pc := 20) (y := mX6_level) (Int32.ofNat 1) dX6_level_20 rfl ?_
    refine wa_putf (pc := 21) (y := mX6_level) (k := 5) 7 .int dX6_level_21 mH_o rfl q2650 (Or.inl rfl) (Nat.le_of_ble_eq_true rfl) rfl (by decide +kernel) rfl rfl ?_
    rw [mW_o7]
    first | refine wa_aload_n (pc := 24) (y := mX6_level) dX6_level_24 rfl ?_ | refine wa_aload_nN (pc := 24) (y := mX6_level) dX6_level_24 rfl ?_ | refine wa_aload_nq (pc := 24) (y := mX6_level) dX6_level_24 rfl ?_
    refine wa_getf (pc := 25) (y := mX6_level) (k := 5) 7 dX6_level_25 mH_o rfl q2650 (Or.inl rfl) (Nat.le_of_ble_eq_true rfl) (by rfl) ?_
    show WA _ _ _ _ _ (.int (Int32.ofNat 1) :: _) _ _
    refine wa_if_le (pc := 28) 35 dX6_level_28 rfl (fun hb28 => absurd hb28 (by decide)) (fun hb28 => ?_)
    clear hb28
    refine wa_iconst (pc := 31) (y := mX6_level) (Int32.ofNat 0) dX6_level_31 rfl ?_
    refine wa_goto (pc := 32) (y := mX6_level) 45 dX6_level_32 rfl ?_
    exact wa_ireturn (pc := 45) (y := mX6_level) .int dX6_level_45 rfl rfl ⟨rfl, rfl⟩
  | some p =>
    have hps := pl_some hp
    by_cases e0 : u c < 12
    · rw [show O_level f σ cue c = oR f σ (lvN f (u c) (p + 1)) by unfold O_level; rw [hp]; exact if_neg (fun x => x e0)]
      first | refine wa_aload_n (pc := 0) (y := mX6_level) dX6_level_0 rfl ?_ | refine wa_aload_nN (pc := 0) (y := mX6_level) dX6_level_0 rfl ?_ | refine wa_aload_nq (pc := 0) (y := mX6_level) dX6_level_0 rfl ?_
      first | refine wa_aload_n (pc := 1) (y := mX6_level) dX6_level_1 rfl ?_ | refine wa_aload_nN (pc := 1) (y := mX6_level) dX6_level_1 rfl ?_ | refine wa_aload_nq (pc := 1) (y := mX6_level) dX6_level_1 rfl ?_
      refine wa_iload_n (pc := 2) (y := mX6_level) dX6_level_2 rfl ?_
      refine wa_callV (pc := 3) (s_X6_isCue (d := d - 1) (by omega) hI) dX6_level_3 okX6_isCue q2719 q2721 qs41 mH_o rfl rfl rfl (Nat.le_of_ble_eq_true rfl) (Nat.le_of_ble_eq_true rfl) (by omega) ?_
      rintro _ _ - - ⟨rfl, rfl⟩
      refine aft_v (pc2 := 6) ?_ rfl
      rw [isC_some hp]
      refine wa_if_eq (pc := 6) 20 dX6_level_6 rfl (fun hb6 => absurd hb6 (by decide)) (fun hb6 => ?_)
      refine wa_iload_n (pc := 9) (y := mX6_level) dX6_level_9 rfl ?_
      refine wa_callS (pc := 10) (s_X6_isChannel (d := d - 1) (by omega)) dX6_level_10 okX6_isChannel q2810 q2811 rfl rfl (Nat.le_of_ble_eq_true rfl) (Nat.le_of_ble_eq_true rfl) (by omega) ?_
      rintro _ _ - - ⟨rfl, rfl⟩
      refine aft_v (pc2 := 13) ?_ rfl
      rw [inb11, decide_eq_true e0]
      refine wa_if_eq (pc := 13) 20 dX6_level_13 rfl (fun hb13 => absurd hb13 (by decide)) (fun hb13 => ?_)
      refine wa_iconst (pc := 16) (y := mX6_level) (Int32.ofNat 0) dX6_level_16 rfl ?_
      refine wa_goto (pc := 17) (y := mX6_level) 21 dX6_level_17 rfl ?_
      refine wa_putf (pc := 21) (y := mX6_level) (k := 5) 7 .int dX6_level_21 mH_o rfl q2650 (Or.inl rfl) (Nat.le_of_ble_eq_true rfl) rfl (by decide +kernel) rfl rfl ?_
      rw [mW_o7]
      first | refine wa_aload_n (pc := 24) (y := mX6_level) dX6_level_24 rfl ?_ | refine wa_aload_nN (pc := 24) (y := mX6_level) dX6_level_24 rfl ?_ | refine wa_aload_nq (pc := 24) (y := mX6_level) dX6_level_24 rfl ?_
      refine wa_getf (pc := 25) (y := mX6_level) (k := 5) 7 dX6_level_25 mH_o rfl q2650 (Or.inl rfl) (Nat.le_of_ble_eq_true rfl) (by rfl) ?_
      show WA _ _ _ _ _ (.int (Int32.ofNat 0) :: _) _ _
      refine wa_if_le (pc := 28) 35 dX6_level_28 rfl (fun hb28 => ?_) (fun hb28 => absurd hb28 (by decide))
      clear hb28
      first | refine wa_aload_n (pc := 35) (y := mX6_level) dX6_level_35 rfl ?_ | refine wa_aload_nN (pc := 35) (y := mX6_level) dX6_level_35 rfl ?_ | refine wa_aload_nq (pc := 35) (y := mX6_level) dX6_level_35 rfl ?_
      first | refine wa_aload_n (pc := 36) (y := mX6_level) dX6_level_36 rfl ?_ | refine wa_aload_nN (pc := 36) (y := mX6_level) dX6_level_36 rfl ?_ | refine wa_aload_nq (pc := 36) (y := mX6_level) dX6_level_36 rfl ?_
      refine wa_iload_n (pc := 37) (y := mX6_level) dX6_level_37 rfl ?_
      refine wa_callV (pc := 38) (s_X6_placeOf (d := d - 1) (by omega) hI) dX6_level_38 okX6_placeOf q2723 q2725 qs42 mH_o rfl rfl rfl (Nat.le_of_ble_eq_true rfl) (Nat.le_of_ble_eq_true rfl) (by omega) ?_
      rintro _ _ - - ⟨rfl, rfl⟩
      refine aft_v (pc2 := 41) ?_ rfl
      rw [hp, oI_some]
      refine wa_iload_n (pc := 41) (y := mX6_level) dX6_level_41 (x := Int32.ofNat (u c)) (by rw [u_self]; rfl) ?_
      refine wa_callV (pc := 42) (s_X6_levelIn (d := d - 1) (by omega) hI hps.1 e0) dX6_level_42 okX6_levelIn q2754 q2756 qs46 mH_o rfl rfl rfl (Nat.le_of_ble_eq_true rfl) (Nat.le_of_ble_eq_true rfl) (by omega) ?_
      rintro _ _ - - ⟨rfl, rfl⟩
      refine aft_v (pc2 := 45) ?_ rfl
      exact wa_ireturn (pc := 45) (y := mX6_level) .int dX6_level_45 rfl rfl ⟨rfl, rfl⟩
    · rw [show O_level f σ cue c = oX f σ 1 by unfold O_level; rw [hp]; exact if_pos e0]
      first | refine wa_aload_n (pc := 0) (y := mX6_level) dX6_level_0 rfl ?_ | refine wa_aload_nN (pc := 0) (y := mX6_level) dX6_level_0 rfl ?_ | refine wa_aload_nq (pc := 0) (y := mX6_level) dX6_level_0 rfl ?_
      first | refine wa_aload_n (pc := 1) (y := mX6_level) dX6_level_1 rfl ?_ | refine wa_aload_nN (pc := 1) (y := mX6_level) dX6_level_1 rfl ?_ | refine wa_aload_nq (pc := 1) (y := mX6_level) dX6_level_1 rfl ?_
      refine wa_iload_n (pc := 2) (y := mX6_level) dX6_level_2 rfl ?_
      refine wa_callV (pc := 3) (s_X6_isCue (d := d - 1) (by omega) hI) dX6_level_3 okX6_isCue q2719 q2721 qs41 mH_o rfl rfl rfl (Nat.le_of_ble_eq_true rfl) (Nat.le_of_ble_eq_true rfl) (by omega) ?_
      rintro _ _ - - ⟨rfl, rfl⟩
      refine aft_v (pc2 := 6) ?_ rfl
      rw [isC_some hp]
      refine wa_if_eq (pc := 6) 20 dX6_level_6 rfl (fun hb6 => absurd hb6 (by decide)) (fun hb6 => ?_)
      refine wa_iload_n (pc := 9) (y := mX6_level) dX6_level_9 rfl ?_
      refine wa_callS (pc := 10) (s_X6_isChannel (d := d - 1) (by omega)) dX6_level_10 okX6_isChannel q2810 q2811 rfl rfl (Nat.le_of_ble_eq_true rfl) (Nat.le_of_ble_eq_true rfl) (by omega) ?_
      rintro _ _ - - ⟨rfl, rfl⟩
      refine aft_v (pc2 := 13) ?_ rfl
      rw [inb11, decide_eq_false e0]
      refine wa_if_eq (pc := 13) 20 dX6_level_13 rfl (fun hb13 => ?_) (fun hb13 => absurd rfl hb13)
      refine wa_iconst (pc := 20) (y := mX6_level) (Int32.ofNat 1) dX6_level_20 rfl ?_
      refine wa_putf (pc := 21) (y := mX6_level) (k := 5) 7 .int dX6_level_21 mH_o rfl q2650 (Or.inl rfl) (Nat.le_of_ble_eq_true rfl) rfl (by decide +kernel) rfl rfl ?_
      rw [mW_o7]
      first | refine wa_aload_n (pc := 24) (y := mX6_level) dX6_level_24 rfl ?_ | refine wa_aload_nN (pc := 24) (y := mX6_level) dX6_level_24 rfl ?_ | refine wa_aload_nq (pc := 24) (y := mX6_level) dX6_level_24 rfl ?_
      refine wa_getf (pc := 25) (y := mX6_level) (k := 5) 7 dX6_level_25 mH_o rfl q2650 (Or.inl rfl) (Nat.le_of_ble_eq_true rfl) (by rfl) ?_
      show WA _ _ _ _ _ (.int (Int32.ofNat 1) :: _) _ _
      refine wa_if_le (pc := 28) 35 dX6_level_28 rfl (fun hb28 => absurd hb28 (by decide)) (fun hb28 => ?_)
      clear hb28
      refine wa_iconst (pc := 31) (y := mX6_level) (Int32.ofNat 0) dX6_level_31 rfl ?_
      refine wa_goto (pc := 32) (y := mX6_level) 45 dX6_level_32 rfl ?_
      exact wa_ireturn (pc := 45) (y := mX6_level) .int dX6_level_45 rfl rfl ⟨rfl, rfl⟩
theorem s_X6_levelAgain {cue c : Int32} (hd : 4 ≤ d) (hI : Inv f) : MA G d mX6_levelAgain [.ref m, .int cue, .int c] (mH h m f σ) (fun r h' => r = .inl (some (.int (O_level f σ cue c).2.1)) ∧ h' = mH h m (O_level f σ cue c).2.2.1 (O_level f σ cue c).2.2.2) := by
  show WA _ _ _ 0 [.ref m, .int _, .int _] [] _ _
  first | refine wa_aload_n (pc := 0) (y := mX6_levelAgain) dX6_levelAgain_0 rfl ?_ | refine wa_aload_nN (pc := 0) (y := mX6_levelAgain) dX6_levelAgain_0 rfl ?_ | refine wa_aload_nq (pc := 0) (y := mX6_levelAgain) dX6_levelAgain_0 rfl ?_
  refine wa_iload_n (pc := 1) (y := mX6_levelAgain) dX6_levelAgain_1 rfl ?_
  refine wa_iload_n (pc := 2) (y := mX6_levelAgain) dX6_levelAgain_2 rfl ?_
  refine wa_callV (pc := 3) (s_X6_level (d := d - 1) (by omega) hI) dX6_levelAgain_3 okX6_level q2881 q2874 q2875 mH_o rfl rfl rfl (Nat.le_of_ble_eq_true rfl) (Nat.le_of_ble_eq_true rfl) (by omega) ?_
  rintro _ _ - - ⟨rfl, rfl⟩
  refine aft_v (pc2 := 6) ?_ rfl
  exact wa_ireturn (pc := 6) (y := mX6_levelAgain) .int dX6_levelAgain_6 rfl rfl ⟨rfl, rfl⟩
theorem s_X6_source {cue c : Int32} (hd : 3 ≤ d) (hI : Inv f) : MA G d mX6_source [.ref m, .int cue, .int c] (mH h m f σ) (fun r h' => r = .inl (some (.int (O_source f σ cue c).2.1)) ∧ h' = mH h m (O_source f σ cue c).2.2.1 (O_source f σ cue c).2.2.2) := by
  have hn := hI.1
  have hi := hI.2.1
  show WA _ _ _ 0 [.ref m, .int _, .int _, .retAddr 0] [] _ _
  cases hp : pl f cue with
  | none =>
    rw [show O_source f σ cue c = oX f σ 1 by unfold O_source; rw [hp]]
    first | refine wa_aload_n (pc := 0) (y := mX6_source) dX6_source_0 rfl ?_ | refine wa_aload_nN (pc := 0) (y := mX6_source) dX6_source_0 rfl ?_ | refine wa_aload_nq (pc := 0) (y := mX6_source) dX6_source_0 rfl ?_
    first | refine wa_aload_n (pc := 1) (y := mX6_source) dX6_source_1 rfl ?_ | refine wa_aload_nN (pc := 1) (y := mX6_source) dX6_source_1 rfl ?_ | refine wa_aload_nq (pc := 1) (y := mX6_source) dX6_source_1 rfl ?_
    refine wa_iload_n (pc := 2) (y := mX6_source) dX6_source_2 rfl ?_
    refine wa_callV (pc := 3) (s_X6_isCue (d := d - 1) (by omega) hI) dX6_source_3 okX6_isCue q2719 q2721 qs41 mH_o rfl rfl rfl (Nat.le_of_ble_eq_true rfl) (Nat.le_of_ble_eq_true rfl) (by omega) ?_
    rintro _ _ - - ⟨rfl, rfl⟩
    refine aft_v (pc2 := 6) ?_ rfl
    rw [isC_none hp]
    refine wa_if_eq (pc := 6) 20 dX6_source_6 rfl (fun hb6 => ?_) (fun hb6 => absurd rfl hb6)
    refine wa_iconst (pc := 20) (y := mX6_source) (Int32.ofNat 1) dX6_source_20 rfl ?_
    refine wa_putf (pc := 21) (y := mX6_source) (k := 5) 7 .int dX6_source_21 mH_o rfl q2650 (Or.inl rfl) (Nat.le_of_ble_eq_true rfl) rfl (by decide +kernel) rfl rfl ?_
    rw [mW_o7]
    first | refine wa_aload_n (pc := 24) (y := mX6_source) dX6_source_24 rfl ?_ | refine wa_aload_nN (pc := 24) (y := mX6_source) dX6_source_24 rfl ?_ | refine wa_aload_nq (pc := 24) (y := mX6_source) dX6_source_24 rfl ?_
    refine wa_getf (pc := 25) (y := mX6_source) (k := 5) 7 dX6_source_25 mH_o rfl q2650 (Or.inl rfl) (Nat.le_of_ble_eq_true rfl) (by rfl) ?_
    show WA _ _ _ _ _ (.int (Int32.ofNat 1) :: _) _ _
    refine wa_if_le (pc := 28) 33 dX6_source_28 rfl (fun hb28 => absurd hb28 (by decide)) (fun hb28 => ?_)
    clear hb28
    refine wa_iconst (pc := 31) (y := mX6_source) (Int32.ofNat 0) dX6_source_31 rfl ?_
    exact wa_ireturn (pc := 32) (y := mX6_source) .int dX6_source_32 rfl rfl ⟨rfl, rfl⟩
  | some p =>
    have hps := pl_some hp
    by_cases e0 : u c < 12
    · rw [show O_source f σ cue c = oR f σ (f (18 + 12 * srN f c p)) by unfold O_source; rw [hp]; exact if_neg (fun x => x e0)]
      have fin : ∀ k, k < 12 → ∀ v : Int32, f (18 + 12 * k) = v → WA G d mX6_source 74 [.ref m, .int cue, .int c, .int (Int32.ofNat k)] [] (mH h m f (mV σ 7 (Int32.ofNat 0))) (fun r h' => r = .inl (some (.int v)) ∧ h' = mH h m f (mV σ 7 (Int32.ofNat 0))) := by
        intro k hk v hv
        rw [← hv]
        first | refine wa_aload_n (pc := 74) (y := mX6_source) dX6_source_74 rfl ?_ | refine wa_aload_nN (pc := 74) (y := mX6_source) dX6_source_74 rfl ?_ | refine wa_aload_nq (pc := 74) (y := mX6_source) dX6_source_74 rfl ?_
        refine wa_getf (pc := 75) (y := mX6_source) (k := 5) 0 dX6_source_75 mH_o rfl q2643 (Or.inl rfl) (Nat.le_of_ble_eq_true rfl) (by rfl) ?_
        refine wa_iload_n (pc := 78) (y := mX6_source) dX6_source_78 rfl ?_
        refine wa_callS (pc := 79) (s_X6_at (d := d - 1)) dX6_source_79 okX6_at q2727 q2728 rfl rfl (Nat.le_of_ble_eq_true rfl) (Nat.le_of_ble_eq_true rfl) (by omega) ?_
        rintro _ _ - - ⟨rfl, rfl⟩
        refine aft_v (pc2 := 82) ?_ rfl
        refine wa_ialoadN (pc := 82) (y := mX6_source) dX6_source_82 mH_1 (by omega) ?_
        exact wa_ireturn (pc := 83) (y := mX6_source) .int dX6_source_83 rfl rfl ⟨rfl, rfl⟩
      have lp : ∀ k, k < u (f 0) → WA G d mX6_source 39 [.ref m, .int cue, .int c, .int (Int32.ofNat k)] [] (mH h m f (mV σ 7 (Int32.ofNat 0))) (fun r h' => r = .inl (some (.int (f (18 + 12 * srN f c k)))) ∧ h' = mH h m f (mV σ 7 (Int32.ofNat 0))) := by
        intro k
        induction k with
        | zero =>
          intro hk
          refine wa_iload_n (pc := 39) (y := mX6_source) dX6_source_39 rfl ?_
          refine wa_if_le (pc := 40) 74 dX6_source_40 rfl (fun hb40 => ?_) (fun hb40 => absurd (by decide) hb40)
          exact fin 0 (by omega) _ rfl
        | succ k ih =>
          intro hk
          have fink := fun v hv => fin (k + 1) (by omega) v hv
          cases eg : gv f (f (18 + 12 * (k + 1))) c with
          | some i =>
            have hs := (gv_some eg).1
            refine wa_iload_n (pc := 39) (y := mX6_source) dX6_source_39 rfl ?_
            refine wa_if_le (pc := 40) 74 dX6_source_40 rfl (fun hb40 => absurd ((iN_pos (by omega)).mp hb40) (by omega)) (fun hb40 => ?_)
            first | refine wa_aload_n (pc := 43) (y := mX6_source) dX6_source_43 rfl ?_ | refine wa_aload_nN (pc := 43) (y := mX6_source) dX6_source_43 rfl ?_ | refine wa_aload_nq (pc := 43) (y := mX6_source) dX6_source_43 rfl ?_
            first | refine wa_aload_n (pc := 44) (y := mX6_source) dX6_source_44 rfl ?_ | refine wa_aload_nN (pc := 44) (y := mX6_source) dX6_source_44 rfl ?_ | refine wa_aload_nq (pc := 44) (y := mX6_source) dX6_source_44 rfl ?_
            refine wa_getf (pc := 45) (y := mX6_source) (k := 5) 0 dX6_source_45 mH_o rfl q2643 (Or.inl rfl) (Nat.le_of_ble_eq_true rfl) (by rfl) ?_
            refine wa_iload_n (pc := 48) (y := mX6_source) dX6_source_48 rfl ?_
            refine wa_callS (pc := 49) (s_X6_at (d := d - 1)) dX6_source_49 okX6_at q2727 q2728 rfl rfl (Nat.le_of_ble_eq_true rfl) (Nat.le_of_ble_eq_true rfl) (by omega) ?_
            rintro _ _ - - ⟨rfl, rfl⟩
            refine aft_v (pc2 := 52) ?_ rfl
            refine wa_ialoadN (pc := 52) (y := mX6_source) dX6_source_52 mH_1 (by omega) ?_
            refine wa_iload_n (pc := 53) (y := mX6_source) dX6_source_53 rfl ?_
            refine wa_callV (pc := 54) (s_X6_given (d := d - 1) hI) dX6_source_54 okX6_given q2758 q2760 qs47 mH_o rfl rfl rfl (Nat.le_of_ble_eq_true rfl) (Nat.le_of_ble_eq_true rfl) (by omega) ?_
            rintro _ _ - - ⟨rfl, rfl⟩
            refine aft_v (pc2 := 57) ?_ rfl
            rw [eg, oI_some]
            refine wa_if_ge (pc := 57) 74 dX6_source_57 rfl (fun hb57 => ?_) (fun hb57 => absurd ((iN_le (a := 0) (by omega) (by omega)).mpr (by omega)) hb57)
            exact fink _ (by unfold srN; rw [eg]; rfl)
          | none =>
            cases e9 : isBl f (k + 1) with
            | true =>
              refine wa_iload_n (pc := 39) (y := mX6_source) dX6_source_39 rfl ?_
              refine wa_if_le (pc := 40) 74 dX6_source_40 rfl (fun hb40 => absurd ((iN_pos (by omega)).mp hb40) (by omega)) (fun hb40 => ?_)
              first | refine wa_aload_n (pc := 43) (y := mX6_source) dX6_source_43 rfl ?_ | refine wa_aload_nN (pc := 43) (y := mX6_source) dX6_source_43 rfl ?_ | refine wa_aload_nq (pc := 43) (y := mX6_source) dX6_source_43 rfl ?_
              first | refine wa_aload_n (pc := 44) (y := mX6_source) dX6_source_44 rfl ?_ | refine wa_aload_nN (pc := 44) (y := mX6_source) dX6_source_44 rfl ?_ | refine wa_aload_nq (pc := 44) (y := mX6_source) dX6_source_44 rfl ?_
              refine wa_getf (pc := 45) (y := mX6_source) (k := 5) 0 dX6_source_45 mH_o rfl q2643 (Or.inl rfl) (Nat.le_of_ble_eq_true rfl) (by rfl) ?_
              refine wa_iload_n (pc := 48) (y := mX6_source) dX6_source_48 rfl ?_
              refine wa_callS (pc := 49) (s_X6_at (d := d - 1)) dX6_source_49 okX6_at q2727 q2728 rfl rfl (Nat.le_of_ble_eq_true rfl) (Nat.le_of_ble_eq_true rfl) (by omega) ?_
              rintro _ _ - - ⟨rfl, rfl⟩
              refine aft_v (pc2 := 52) ?_ rfl
              refine wa_ialoadN (pc := 52) (y := mX6_source) dX6_source_52 mH_1 (by omega) ?_
              refine wa_iload_n (pc := 53) (y := mX6_source) dX6_source_53 rfl ?_
              refine wa_callV (pc := 54) (s_X6_given (d := d - 1) hI) dX6_source_54 okX6_given q2758 q2760 qs47 mH_o rfl rfl rfl (Nat.le_of_ble_eq_true rfl) (Nat.le_of_ble_eq_true rfl) (by omega) ?_
              rintro _ _ - - ⟨rfl, rfl⟩
              refine aft_v (pc2 := 57) ?_ rfl
              rw [eg, oI_none]
              refine wa_if_ge (pc := 57) 74 dX6_source_57 rfl (fun hb57 => absurd hb57 (by decide)) (fun hb57 => ?_)
              first | refine wa_aload_n (pc := 60) (y := mX6_source) dX6_source_60 rfl ?_ | refine wa_aload_nN (pc := 60) (y := mX6_source) dX6_source_60 rfl ?_ | refine wa_aload_nq (pc := 60) (y := mX6_source) dX6_source_60 rfl ?_
              refine wa_iload_n (pc := 61) (y := mX6_source) dX6_source_61 rfl ?_
              refine wa_callV (pc := 62) (s_X6_isBlock (d := d - 1) (by omega) (by omega)) dX6_source_62 okX6_isBlock q2762 q2764 qs48 mH_o rfl rfl rfl (Nat.le_of_ble_eq_true rfl) (Nat.le_of_ble_eq_true rfl) (by omega) ?_
              rintro _ _ - - ⟨rfl, rfl⟩
              refine aft_v (pc2 := 65) ?_ rfl
              rw [e9]
              refine wa_if_ne (pc := 65) 74 dX6_source_65 rfl (fun hb65 => ?_) (fun hb65 => absurd hb65 (by decide))
              exact fink _ (by unfold srN; rw [eg, e9]; rfl)
            | false =>
              refine wa_iload_n (pc := 39) (y := mX6_source) dX6_source_39 rfl ?_
              refine wa_if_le (pc := 40) 74 dX6_source_40 rfl (fun hb40 => absurd ((iN_pos (by omega)).mp hb40) (by omega)) (fun hb40 => ?_)
              first | refine wa_aload_n (pc := 43) (y := mX6_source) dX6_source_43 rfl ?_ | refine wa_aload_nN (pc := 43) (y := mX6_source) dX6_source_43 rfl ?_ | refine wa_aload_nq (pc := 43) (y := mX6_source) dX6_source_43 rfl ?_
              first | refine wa_aload_n (pc := 44) (y := mX6_source) dX6_source_44 rfl ?_ | refine wa_aload_nN (pc := 44) (y := mX6_source) dX6_source_44 rfl ?_ | refine wa_aload_nq (pc := 44) (y := mX6_source) dX6_source_44 rfl ?_
              refine wa_getf (pc := 45) (y := mX6_source) (k := 5) 0 dX6_source_45 mH_o rfl q2643 (Or.inl rfl) (Nat.le_of_ble_eq_true rfl) (by rfl) ?_
              refine wa_iload_n (pc := 48) (y := mX6_source) dX6_source_48 rfl ?_
              refine wa_callS (pc := 49) (s_X6_at (d := d - 1)) dX6_source_49 okX6_at q2727 q2728 rfl rfl (Nat.le_of_ble_eq_true rfl) (Nat.le_of_ble_eq_true rfl) (by omega) ?_
              rintro _ _ - - ⟨rfl, rfl⟩
              refine aft_v (pc2 := 52) ?_ rfl
              refine wa_ialoadN (pc := 52) (y := mX6_source) dX6_source_52 mH_1 (by omega) ?_
              refine wa_iload_n (pc := 53) (y := mX6_source) dX6_source_53 rfl ?_
              refine wa_callV (pc := 54) (s_X6_given (d := d - 1) hI) dX6_source_54 okX6_given q2758 q2760 qs47 mH_o rfl rfl rfl (Nat.le_of_ble_eq_true rfl) (Nat.le_of_ble_eq_true rfl) (by omega) ?_
              rintro _ _ - - ⟨rfl, rfl⟩
              refine aft_v (pc2 := 57) ?_ rfl
              rw [eg, oI_none]
              refine wa_if_ge (pc := 57) 74 dX6_source_57 rfl (fun hb57 => absurd hb57 (by decide)) (fun hb57 => ?_)
              first | refine wa_aload_n (pc := 60) (y := mX6_source) dX6_source_60 rfl ?_ | refine wa_aload_nN (pc := 60) (y := mX6_source) dX6_source_60 rfl ?_ | refine wa_aload_nq (pc := 60) (y := mX6_source) dX6_source_60 rfl ?_
              refine wa_iload_n (pc := 61) (y := mX6_source) dX6_source_61 rfl ?_
              refine wa_callV (pc := 62) (s_X6_isBlock (d := d - 1) (by omega) (by omega)) dX6_source_62 okX6_isBlock q2762 q2764 qs48 mH_o rfl rfl rfl (Nat.le_of_ble_eq_true rfl) (Nat.le_of_ble_eq_true rfl) (by omega) ?_
              rintro _ _ - - ⟨rfl, rfl⟩
              refine aft_v (pc2 := 65) ?_ rfl
              rw [e9]
              refine wa_if_ne (pc := 65) 74 dX6_source_65 rfl (fun hb65 => absurd rfl hb65) (fun hb65 => ?_)
              refine wa_iinc (pc := 68) (y := mX6_source) (-1) dX6_source_68 rfl rfl (Nat.le_of_ble_eq_true rfl) rfl ?_
              simp only [List.set_cons_zero, List.set_cons_succ]
              rw [← dn_s (k + 1), dn_i, dn_s]
              refine wa_goto (pc := 71) (y := mX6_source) 39 dX6_source_71 rfl ?_
              rw [show srN f c (k + 1) = srN f c k by rw [srN, eg, e9]; rfl]
              exact ih (by omega)
      first | refine wa_aload_n (pc := 0) (y := mX6_source) dX6_source_0 rfl ?_ | refine wa_aload_nN (pc := 0) (y := mX6_source) dX6_source_0 rfl ?_ | refine wa_aload_nq (pc := 0) (y := mX6_source) dX6_source_0 rfl ?_
      first | refine wa_aload_n (pc := 1) (y := mX6_source) dX6_source_1 rfl ?_ | refine wa_aload_nN (pc := 1) (y := mX6_source) dX6_source_1 rfl ?_ | refine wa_aload_nq (pc := 1) (y := mX6_source) dX6_source_1 rfl ?_
      refine wa_iload_n (pc := 2) (y := mX6_source) dX6_source_2 rfl ?_
      refine wa_callV (pc := 3) (s_X6_isCue (d := d - 1) (by omega) hI) dX6_source_3 okX6_isCue q2719 q2721 qs41 mH_o rfl rfl rfl (Nat.le_of_ble_eq_true rfl) (Nat.le_of_ble_eq_true rfl) (by omega) ?_
      rintro _ _ - - ⟨rfl, rfl⟩
      refine aft_v (pc2 := 6) ?_ rfl
      rw [isC_some hp]
      refine wa_if_eq (pc := 6) 20 dX6_source_6 rfl (fun hb6 => absurd hb6 (by decide)) (fun hb6 => ?_)
      refine wa_iload_n (pc := 9) (y := mX6_source) dX6_source_9 rfl ?_
      refine wa_callS (pc := 10) (s_X6_isChannel (d := d - 1) (by omega)) dX6_source_10 okX6_isChannel q2810 q2811 rfl rfl (Nat.le_of_ble_eq_true rfl) (Nat.le_of_ble_eq_true rfl) (by omega) ?_
      rintro _ _ - - ⟨rfl, rfl⟩
      refine aft_v (pc2 := 13) ?_ rfl
      rw [inb11, decide_eq_true e0]
      refine wa_if_eq (pc := 13) 20 dX6_source_13 rfl (fun hb13 => absurd hb13 (by decide)) (fun hb13 => ?_)
      refine wa_iconst (pc := 16) (y := mX6_source) (Int32.ofNat 0) dX6_source_16 rfl ?_
      refine wa_goto (pc := 17) (y := mX6_source) 21 dX6_source_17 rfl ?_
      refine wa_putf (pc := 21) (y := mX6_source) (k := 5) 7 .int dX6_source_21 mH_o rfl q2650 (Or.inl rfl) (Nat.le_of_ble_eq_true rfl) rfl (by decide +kernel) rfl rfl ?_
      rw [mW_o7]
      first | refine wa_aload_n (pc := 24) (y := mX6_source) dX6_source_24 rfl ?_ | refine wa_aload_nN (pc := 24) (y := mX6_source) dX6_source_24 rfl ?_ | refine wa_aload_nq (pc := 24) (y := mX6_source) dX6_source_24 rfl ?_
      refine wa_getf (pc := 25) (y := mX6_source) (k := 5) 7 dX6_source_25 mH_o rfl q2650 (Or.inl rfl) (Nat.le_of_ble_eq_true rfl) (by rfl) ?_
      show WA _ _ _ _ _ (.int (Int32.ofNat 0) :: _) _ _
      refine wa_if_le (pc := 28) 33 dX6_source_28 rfl (fun hb28 => ?_) (fun hb28 => absurd hb28 (by decide))
      clear hb28
      first | refine wa_aload_n (pc := 33) (y := mX6_source) dX6_source_33 rfl ?_ | refine wa_aload_nN (pc := 33) (y := mX6_source) dX6_source_33 rfl ?_ | refine wa_aload_nq (pc := 33) (y := mX6_source) dX6_source_33 rfl ?_
      refine wa_iload_n (pc := 34) (y := mX6_source) dX6_source_34 rfl ?_
      refine wa_callV (pc := 35) (s_X6_placeOf (d := d - 1) (by omega) hI) dX6_source_35 okX6_placeOf q2723 q2725 qs42 mH_o rfl rfl rfl (Nat.le_of_ble_eq_true rfl) (Nat.le_of_ble_eq_true rfl) (by omega) ?_
      rintro _ _ - - ⟨rfl, rfl⟩
      refine aft_v (pc2 := 38) ?_ rfl
      rw [hp, oI_some]
      refine wa_istore_n (pc := 38) (y := mX6_source) dX6_source_38 (Nat.le_of_ble_eq_true rfl) rfl ?_
      change WA _ _ _ _ (List.set _ 3 _) _ _ _
      simp only [List.set_cons_zero, List.set_cons_succ]
      exact lp p hps.1
    · rw [show O_source f σ cue c = oX f σ 1 by unfold O_source; rw [hp]; exact if_pos e0]
      first | refine wa_aload_n (pc := 0) (y := mX6_source) dX6_source_0 rfl ?_ | refine wa_aload_nN (pc := 0) (y := mX6_source) dX6_source_0 rfl ?_ | refine wa_aload_nq (pc := 0) (y := mX6_source) dX6_source_0 rfl ?_
      first | refine wa_aload_n (pc := 1) (y := mX6_source) dX6_source_1 rfl ?_ | refine wa_aload_nN (pc := 1) (y := mX6_source) dX6_source_1 rfl ?_ | refine wa_aload_nq (pc := 1) (y := mX6_source) dX6_source_1 rfl ?_
      refine wa_iload_n (pc := 2) (y := mX6_source) dX6_source_2 rfl ?_
      refine wa_callV (pc := 3) (s_X6_isCue (d := d - 1) (by omega) hI) dX6_source_3 okX6_isCue q2719 q2721 qs41 mH_o rfl rfl rfl (Nat.le_of_ble_eq_true rfl) (Nat.le_of_ble_eq_true rfl) (by omega) ?_
      rintro _ _ - - ⟨rfl, rfl⟩
      refine aft_v (pc2 := 6) ?_ rfl
      rw [isC_some hp]
      refine wa_if_eq (pc := 6) 20 dX6_source_6 rfl (fun hb6 => absurd hb6 (by decide)) (fun hb6 => ?_)
      refine wa_iload_n (pc := 9) (y := mX6_source) dX6_source_9 rfl ?_
      refine wa_callS (pc := 10) (s_X6_isChannel (d := d - 1) (by omega)) dX6_source_10 okX6_isChannel q2810 q2811 rfl rfl (Nat.le_of_ble_eq_true rfl) (Nat.le_of_ble_eq_true rfl) (by omega) ?_
      rintro _ _ - - ⟨rfl, rfl⟩
      refine aft_v (pc2 := 13) ?_ rfl
      rw [inb11, decide_eq_false e0]
      refine wa_if_eq (pc := 13) 20 dX6_source_13 rfl (fun hb13 => ?_) (fun hb13 => absurd rfl hb13)
      refine wa_iconst (pc := 20) (y := mX6_source) (Int32.ofNat 1) dX6_source_20 rfl ?_
      refine wa_putf (pc := 21) (y := mX6_source) (k := 5) 7 .int dX6_source_21 mH_o rfl q2650 (Or.inl rfl) (Nat.le_of_ble_eq_true rfl) rfl (by decide +kernel) rfl rfl ?_
      rw [mW_o7]
      first | refine wa_aload_n (pc := 24) (y := mX6_source) dX6_source_24 rfl ?_ | refine wa_aload_nN (pc := 24) (y := mX6_source) dX6_source_24 rfl ?_ | refine wa_aload_nq (pc := 24) (y := mX6_source) dX6_source_24 rfl ?_
      refine wa_getf (pc := 25) (y := mX6_source) (k := 5) 7 dX6_source_25 mH_o rfl q2650 (Or.inl rfl) (Nat.le_of_ble_eq_true rfl) (by rfl) ?_
      show WA _ _ _ _ _ (.int (Int32.ofNat 1) :: _) _ _
      refine wa_if_le (pc := 28) 33 dX6_source_28 rfl (fun hb28 => absurd hb28 (by decide)) (fun hb28 => ?_)
      clear hb28
      refine wa_iconst (pc := 31) (y := mX6_source) (Int32.ofNat 0) dX6_source_31 rfl ?_
      exact wa_ireturn (pc := 32) (y := mX6_source) .int dX6_source_32 rfl rfl ⟨rfl, rfl⟩
theorem s_X6_reason : MA G d mX6_reason [.ref m] (mH h m f σ) (fun r h' => r = .inl (some (.int (O_reason f σ).2.1)) ∧ h' = mH h m (O_reason f σ).2.2.1 (O_reason f σ).2.2.2) := by
  show WA _ _ _ 0 [.ref m] [] _ _
  by_cases e : σ.2 6 = 0
  · rw [show O_reason f σ = _ from if_pos e]
    first | refine wa_aload_n (pc := 0) (y := mX6_reason) dX6_reason_0 rfl ?_ | refine wa_aload_nN (pc := 0) (y := mX6_reason) dX6_reason_0 rfl ?_ | refine wa_aload_nq (pc := 0) (y := mX6_reason) dX6_reason_0 rfl ?_
    first | refine wa_aload_n (pc := 1) (y := mX6_reason) dX6_reason_1 rfl ?_ | refine wa_aload_nN (pc := 1) (y := mX6_reason) dX6_reason_1 rfl ?_ | refine wa_aload_nq (pc := 1) (y := mX6_reason) dX6_reason_1 rfl ?_
    refine wa_getf (pc := 2) (y := mX6_reason) (k := 5) 6 dX6_reason_2 mH_o rfl q2649 (Or.inl rfl) (Nat.le_of_ble_eq_true rfl) (by rfl) ?_
    refine wa_if_ne (pc := 5) 12 dX6_reason_5 rfl (fun hb5 => absurd e hb5) (fun hb5 => ?_)
    refine wa_iconst (pc := 8) (y := mX6_reason) (Int32.ofNat 1) dX6_reason_8 rfl ?_
    refine wa_goto (pc := 9) (y := mX6_reason) 13 dX6_reason_9 rfl ?_
    refine wa_putf (pc := 13) (y := mX6_reason) (k := 5) 7 .int dX6_reason_13 mH_o rfl q2650 (Or.inl rfl) (Nat.le_of_ble_eq_true rfl) rfl (by decide +kernel) rfl rfl ?_
    rw [mW_o7]
    first | refine wa_aload_n (pc := 16) (y := mX6_reason) dX6_reason_16 rfl ?_ | refine wa_aload_nN (pc := 16) (y := mX6_reason) dX6_reason_16 rfl ?_ | refine wa_aload_nq (pc := 16) (y := mX6_reason) dX6_reason_16 rfl ?_
    refine wa_getf (pc := 17) (y := mX6_reason) (k := 5) 6 dX6_reason_17 mH_o rfl q2649 (Or.inl rfl) (Nat.le_of_ble_eq_true rfl) (by rfl) ?_
    exact wa_ireturn (pc := 20) (y := mX6_reason) .int dX6_reason_20 rfl rfl ⟨rfl, rfl⟩
  · rw [show O_reason f σ = _ from if_neg e]
    first | refine wa_aload_n (pc := 0) (y := mX6_reason) dX6_reason_0 rfl ?_ | refine wa_aload_nN (pc := 0) (y := mX6_reason) dX6_reason_0 rfl ?_ | refine wa_aload_nq (pc := 0) (y := mX6_reason) dX6_reason_0 rfl ?_
    first | refine wa_aload_n (pc := 1) (y := mX6_reason) dX6_reason_1 rfl ?_ | refine wa_aload_nN (pc := 1) (y := mX6_reason) dX6_reason_1 rfl ?_ | refine wa_aload_nq (pc := 1) (y := mX6_reason) dX6_reason_1 rfl ?_
    refine wa_getf (pc := 2) (y := mX6_reason) (k := 5) 6 dX6_reason_2 mH_o rfl q2649 (Or.inl rfl) (Nat.le_of_ble_eq_true rfl) (by rfl) ?_
    refine wa_if_ne (pc := 5) 12 dX6_reason_5 rfl (fun hb5 => ?_) (fun hb5 => absurd hb5 e)
    refine wa_iconst (pc := 12) (y := mX6_reason) (Int32.ofNat 0) dX6_reason_12 rfl ?_
    refine wa_putf (pc := 13) (y := mX6_reason) (k := 5) 7 .int dX6_reason_13 mH_o rfl q2650 (Or.inl rfl) (Nat.le_of_ble_eq_true rfl) rfl (by decide +kernel) rfl rfl ?_
    rw [mW_o7]
    first | refine wa_aload_n (pc := 16) (y := mX6_reason) dX6_reason_16 rfl ?_ | refine wa_aload_nN (pc := 16) (y := mX6_reason) dX6_reason_16 rfl ?_ | refine wa_aload_nq (pc := 16) (y := mX6_reason) dX6_reason_16 rfl ?_
    refine wa_getf (pc := 17) (y := mX6_reason) (k := 5) 6 dX6_reason_17 mH_o rfl q2649 (Or.inl rfl) (Nat.le_of_ble_eq_true rfl) (by rfl) ?_
    exact wa_ireturn (pc := 20) (y := mX6_reason) .int dX6_reason_20 rfl rfl ⟨rfl, rfl⟩
theorem s_X6_steps {b : Bool} (hd : 5 ≤ d) (hI : Inv f) (hpm : u (σ.2 5) ≤ 6) : MA G d mX6_steps [.ref m, .int (bI b)] (mH h m f σ) (fun r h' => r = .inl (some (.int (O_steps f σ b).2.1)) ∧ h' = mH h m (O_steps f σ b).2.2.1 (O_steps f σ b).2.2.2) := by
  show WA _ _ _ 0 [.ref m, .int _] [] _ _
  have hle := dGo_le (f := f) (σ := mA σ 1 f) (b := b)
  have h5 : u ((mV (dGo f (mA σ 1 f) b).2.2 7 (Int32.ofNat 0)).2 5) ≤ 6 := by
    show u ((dGo f (mA σ 1 f) b).2.2.2 5) ≤ 6
    rw [dGo_5]
    exact hpm
  by_cases e : 0 < (dGo f (mA σ 1 f) b).1
  · rw [show O_steps f σ b = _ from if_pos e]
    first | refine wa_aload_n (pc := 0) (y := mX6_steps) dX6_steps_0 rfl ?_ | refine wa_aload_nN (pc := 0) (y := mX6_steps) dX6_steps_0 rfl ?_ | refine wa_aload_nq (pc := 0) (y := mX6_steps) dX6_steps_0 rfl ?_
    refine wa_callV (pc := 1) (s_X6_keepState (d := d - 1) (by omega)) dX6_steps_1 okX6_keepState q2707 q2709 qs39 mH_o rfl rfl rfl (Nat.le_of_ble_eq_true rfl) (Nat.le_of_ble_eq_true rfl) (by omega) ?_
    rintro _ _ - - ⟨rfl, rfl⟩
    refine aft_0 (pc2 := 4) ?_ rfl
    first | refine wa_aload_n (pc := 4) (y := mX6_steps) dX6_steps_4 rfl ?_ | refine wa_aload_nN (pc := 4) (y := mX6_steps) dX6_steps_4 rfl ?_ | refine wa_aload_nq (pc := 4) (y := mX6_steps) dX6_steps_4 rfl ?_
    first | refine wa_aload_n (pc := 5) (y := mX6_steps) dX6_steps_5 rfl ?_ | refine wa_aload_nN (pc := 5) (y := mX6_steps) dX6_steps_5 rfl ?_ | refine wa_aload_nq (pc := 5) (y := mX6_steps) dX6_steps_5 rfl ?_
    refine wa_iload_n (pc := 6) (y := mX6_steps) dX6_steps_6 rfl ?_
    refine wa_callV (pc := 7) (s_X6_doGo (d := d - 1) (by omega) hI) dX6_steps_7 okX6_doGo q2906 q2908 qs65 mH_o rfl rfl rfl (Nat.le_of_ble_eq_true rfl) (Nat.le_of_ble_eq_true rfl) (by omega) ?_
    rintro _ _ - - ⟨rfl, rfl⟩
    refine aft_v (pc2 := 10) ?_ rfl
    refine wa_if_le (pc := 10) 17 dX6_steps_10 rfl (fun hb10 => absurd ((iN_pos (by omega)).mp hb10) (by omega)) (fun hb10 => ?_)
    refine wa_iconst (pc := 13) (y := mX6_steps) (Int32.ofNat 1) dX6_steps_13 rfl ?_
    refine wa_goto (pc := 14) (y := mX6_steps) 18 dX6_steps_14 rfl ?_
    refine wa_putf (pc := 18) (y := mX6_steps) (k := 5) 7 .int dX6_steps_18 mH_o rfl q2650 (Or.inl rfl) (Nat.le_of_ble_eq_true rfl) rfl (by decide +kernel) rfl rfl ?_
    rw [mW_o7]
    first | refine wa_aload_n (pc := 21) (y := mX6_steps) dX6_steps_21 rfl ?_ | refine wa_aload_nN (pc := 21) (y := mX6_steps) dX6_steps_21 rfl ?_ | refine wa_aload_nq (pc := 21) (y := mX6_steps) dX6_steps_21 rfl ?_
    refine wa_getf (pc := 22) (y := mX6_steps) (k := 5) 7 dX6_steps_22 mH_o rfl q2650 (Or.inl rfl) (Nat.le_of_ble_eq_true rfl) (by rfl) ?_
    show WA _ _ _ _ _ (.int (Int32.ofNat 1) :: _) _ _
    refine wa_if_le (pc := 25) 30 dX6_steps_25 rfl (fun hb25 => absurd hb25 (by decide)) (fun hb25 => ?_)
    clear hb25
    refine wa_iconst (pc := 28) (y := mX6_steps) (Int32.ofNat 0) dX6_steps_28 rfl ?_
    exact wa_ireturn (pc := 29) (y := mX6_steps) .int dX6_steps_29 rfl rfl ⟨rfl, rfl⟩
  · rw [show O_steps f σ b = _ from if_neg e]
    first | refine wa_aload_n (pc := 0) (y := mX6_steps) dX6_steps_0 rfl ?_ | refine wa_aload_nN (pc := 0) (y := mX6_steps) dX6_steps_0 rfl ?_ | refine wa_aload_nq (pc := 0) (y := mX6_steps) dX6_steps_0 rfl ?_
    refine wa_callV (pc := 1) (s_X6_keepState (d := d - 1) (by omega)) dX6_steps_1 okX6_keepState q2707 q2709 qs39 mH_o rfl rfl rfl (Nat.le_of_ble_eq_true rfl) (Nat.le_of_ble_eq_true rfl) (by omega) ?_
    rintro _ _ - - ⟨rfl, rfl⟩
    refine aft_0 (pc2 := 4) ?_ rfl
    first | refine wa_aload_n (pc := 4) (y := mX6_steps) dX6_steps_4 rfl ?_ | refine wa_aload_nN (pc := 4) (y := mX6_steps) dX6_steps_4 rfl ?_ | refine wa_aload_nq (pc := 4) (y := mX6_steps) dX6_steps_4 rfl ?_
    first | refine wa_aload_n (pc := 5) (y := mX6_steps) dX6_steps_5 rfl ?_ | refine wa_aload_nN (pc := 5) (y := mX6_steps) dX6_steps_5 rfl ?_ | refine wa_aload_nq (pc := 5) (y := mX6_steps) dX6_steps_5 rfl ?_
    refine wa_iload_n (pc := 6) (y := mX6_steps) dX6_steps_6 rfl ?_
    refine wa_callV (pc := 7) (s_X6_doGo (d := d - 1) (by omega) hI) dX6_steps_7 okX6_doGo q2906 q2908 qs65 mH_o rfl rfl rfl (Nat.le_of_ble_eq_true rfl) (Nat.le_of_ble_eq_true rfl) (by omega) ?_
    rintro _ _ - - ⟨rfl, rfl⟩
    refine aft_v (pc2 := 10) ?_ rfl
    refine wa_if_le (pc := 10) 17 dX6_steps_10 rfl (fun hb10 => ?_) (fun hb10 => absurd ((iN_pos (by omega)).mpr (by omega)) hb10)
    refine wa_iconst (pc := 17) (y := mX6_steps) (Int32.ofNat 0) dX6_steps_17 rfl ?_
    refine wa_putf (pc := 18) (y := mX6_steps) (k := 5) 7 .int dX6_steps_18 mH_o rfl q2650 (Or.inl rfl) (Nat.le_of_ble_eq_true rfl) rfl (by decide +kernel) rfl rfl ?_
    rw [mW_o7]
    first | refine wa_aload_n (pc := 21) (y := mX6_steps) dX6_steps_21 rfl ?_ | refine wa_aload_nN (pc := 21) (y := mX6_steps) dX6_steps_21 rfl ?_ | refine wa_aload_nq (pc := 21) (y := mX6_steps) dX6_steps_21 rfl ?_
    refine wa_getf (pc := 22) (y := mX6_steps) (k := 5) 7 dX6_steps_22 mH_o rfl q2650 (Or.inl rfl) (Nat.le_of_ble_eq_true rfl) (by rfl) ?_
    show WA _ _ _ _ _ (.int (Int32.ofNat 0) :: _) _ _
    refine wa_if_le (pc := 25) 30 dX6_steps_25 rfl (fun hb25 => ?_) (fun hb25 => absurd hb25 (by decide))
    clear hb25
    first | refine wa_aload_n (pc := 30) (y := mX6_steps) dX6_steps_30 rfl ?_ | refine wa_aload_nN (pc := 30) (y := mX6_steps) dX6_steps_30 rfl ?_ | refine wa_aload_nq (pc := 30) (y := mX6_steps) dX6_steps_30 rfl ?_
    refine wa_callV (pc := 31) (s_X6_change (d := d - 1) (by omega) h5) dX6_steps_31 okX6_change q2730 q2732 qs43 mH_o rfl rfl rfl (Nat.le_of_ble_eq_true rfl) (Nat.le_of_ble_eq_true rfl) (by omega) ?_
    rintro _ _ - - ⟨rfl, rfl⟩
    refine aft_0 (pc2 := 34) ?_ rfl
    first | refine wa_aload_n (pc := 34) (y := mX6_steps) dX6_steps_34 rfl ?_ | refine wa_aload_nN (pc := 34) (y := mX6_steps) dX6_steps_34 rfl ?_ | refine wa_aload_nq (pc := 34) (y := mX6_steps) dX6_steps_34 rfl ?_
    refine wa_getf (pc := 35) (y := mX6_steps) (k := 5) 0 dX6_steps_35 mH_o rfl q2643 (Or.inl rfl) (Nat.le_of_ble_eq_true rfl) (by rfl) ?_
    refine wa_iconst (pc := 38) (y := mX6_steps) (Int32.ofNat 2) dX6_steps_38 rfl ?_
    refine wa_ialoadN (pc := 39) (y := mX6_steps) dX6_steps_39 mH_1 (by omega) ?_
    exact wa_ireturn (pc := 40) (y := mX6_steps) .int dX6_steps_40 rfl rfl ⟨rfl, rfl⟩
theorem s_X6_go (hd : 6 ≤ d) (hI : Inv f) (hpm : u (σ.2 5) ≤ 6) : MA G d mX6_go [.ref m] (mH h m f σ) (fun r h' => r = .inl (some (.int (O_steps f σ false).2.1)) ∧ h' = mH h m (O_steps f σ false).2.2.1 (O_steps f σ false).2.2.2) := by
  show WA _ _ _ 0 [.ref m] [] _ _
  first | refine wa_aload_n (pc := 0) (y := mX6_go) dX6_go_0 rfl ?_ | refine wa_aload_nN (pc := 0) (y := mX6_go) dX6_go_0 rfl ?_ | refine wa_aload_nq (pc := 0) (y := mX6_go) dX6_go_0 rfl ?_
  refine wa_iconst (pc := 1) (y := mX6_go) (Int32.ofNat 0) dX6_go_1 rfl ?_
  refine wa_callV (pc := 2) (s_X6_steps (b := false) (d := d - 1) (by omega) hI hpm) dX6_go_2 okX6_steps q2902 q2904 qs64 mH_o rfl rfl rfl (Nat.le_of_ble_eq_true rfl) (Nat.le_of_ble_eq_true rfl) (by omega) ?_
  rintro _ _ - - ⟨rfl, rfl⟩
  refine aft_v (pc2 := 5) ?_ rfl
  exact wa_ireturn (pc := 5) (y := mX6_go) .int dX6_go_5 rfl rfl ⟨rfl, rfl⟩
theorem s_X6_back (hd : 6 ≤ d) (hI : Inv f) (hpm : u (σ.2 5) ≤ 6) : MA G d mX6_back [.ref m] (mH h m f σ) (fun r h' => r = .inl (some (.int (O_steps f σ true).2.1)) ∧ h' = mH h m (O_steps f σ true).2.2.1 (O_steps f σ true).2.2.2) := by
  show WA _ _ _ 0 [.ref m] [] _ _
  first | refine wa_aload_n (pc := 0) (y := mX6_back) dX6_back_0 rfl ?_ | refine wa_aload_nN (pc := 0) (y := mX6_back) dX6_back_0 rfl ?_ | refine wa_aload_nq (pc := 0) (y := mX6_back) dX6_back_0 rfl ?_
  refine wa_iconst (pc := 1) (y := mX6_back) (Int32.ofNat 1) dX6_back_1 rfl ?_
  refine wa_callV (pc := 2) (s_X6_steps (b := true) (d := d - 1) (by omega) hI hpm) dX6_back_2 okX6_steps q2902 q2904 qs64 mH_o rfl rfl rfl (Nat.le_of_ble_eq_true rfl) (Nat.le_of_ble_eq_true rfl) (by omega) ?_
  rintro _ _ - - ⟨rfl, rfl⟩
  refine aft_v (pc2 := 5) ?_ rfl
  exact wa_ireturn (pc := 5) (y := mX6_back) .int dX6_back_5 rfl rfl ⟨rfl, rfl⟩
theorem s_X6_jump {cue : Int32} (hd : 4 ≤ d) (hI : Inv f) (hpm : u (σ.2 5) ≤ 6) : MA G d mX6_jump [.ref m, .int cue] (mH h m f σ) (fun r h' => r = .inl (some (.int (O_jump f σ cue).2.1)) ∧ h' = mH h m (O_jump f σ cue).2.2.1 (O_jump f σ cue).2.2.2) := by
  show WA _ _ _ 0 [.ref m, .int _] [] _ _
  cases hp : pl f cue with
  | none =>
    rw [show O_jump f σ cue = oX f σ 1 by unfold O_jump; rw [hp]]
    first | refine wa_aload_n (pc := 0) (y := mX6_jump) dX6_jump_0 rfl ?_ | refine wa_aload_nN (pc := 0) (y := mX6_jump) dX6_jump_0 rfl ?_ | refine wa_aload_nq (pc := 0) (y := mX6_jump) dX6_jump_0 rfl ?_
    first | refine wa_aload_n (pc := 1) (y := mX6_jump) dX6_jump_1 rfl ?_ | refine wa_aload_nN (pc := 1) (y := mX6_jump) dX6_jump_1 rfl ?_ | refine wa_aload_nq (pc := 1) (y := mX6_jump) dX6_jump_1 rfl ?_
    refine wa_iload_n (pc := 2) (y := mX6_jump) dX6_jump_2 rfl ?_
    refine wa_callV (pc := 3) (s_X6_isCue (d := d - 1) (by omega) hI) dX6_jump_3 okX6_isCue q2719 q2721 qs41 mH_o rfl rfl rfl (Nat.le_of_ble_eq_true rfl) (Nat.le_of_ble_eq_true rfl) (by omega) ?_
    rintro _ _ - - ⟨rfl, rfl⟩
    refine aft_v (pc2 := 6) ?_ rfl
    rw [isC_none hp]
    refine wa_if_eq (pc := 6) 13 dX6_jump_6 rfl (fun hb6 => ?_) (fun hb6 => absurd rfl hb6)
    refine wa_iconst (pc := 13) (y := mX6_jump) (Int32.ofNat 1) dX6_jump_13 rfl ?_
    refine wa_putf (pc := 14) (y := mX6_jump) (k := 5) 7 .int dX6_jump_14 mH_o rfl q2650 (Or.inl rfl) (Nat.le_of_ble_eq_true rfl) rfl (by decide +kernel) rfl rfl ?_
    rw [mW_o7]
    first | refine wa_aload_n (pc := 17) (y := mX6_jump) dX6_jump_17 rfl ?_ | refine wa_aload_nN (pc := 17) (y := mX6_jump) dX6_jump_17 rfl ?_ | refine wa_aload_nq (pc := 17) (y := mX6_jump) dX6_jump_17 rfl ?_
    refine wa_getf (pc := 18) (y := mX6_jump) (k := 5) 7 dX6_jump_18 mH_o rfl q2650 (Or.inl rfl) (Nat.le_of_ble_eq_true rfl) (by rfl) ?_
    show WA _ _ _ _ _ (.int (Int32.ofNat 1) :: _) _ _
    refine wa_if_le (pc := 21) 26 dX6_jump_21 rfl (fun hb21 => absurd hb21 (by decide)) (fun hb21 => ?_)
    clear hb21
    refine wa_iconst (pc := 24) (y := mX6_jump) (Int32.ofNat 0) dX6_jump_24 rfl ?_
    exact wa_ireturn (pc := 25) (y := mX6_jump) .int dX6_jump_25 rfl rfl ⟨rfl, rfl⟩
  | some p =>
    rw [show O_jump f σ cue = (0, gsC f cue p 12, goF f cue p, oC f σ) by unfold O_jump; rw [hp]]
    dsimp only
    first | refine wa_aload_n (pc := 0) (y := mX6_jump) dX6_jump_0 rfl ?_ | refine wa_aload_nN (pc := 0) (y := mX6_jump) dX6_jump_0 rfl ?_ | refine wa_aload_nq (pc := 0) (y := mX6_jump) dX6_jump_0 rfl ?_
    first | refine wa_aload_n (pc := 1) (y := mX6_jump) dX6_jump_1 rfl ?_ | refine wa_aload_nN (pc := 1) (y := mX6_jump) dX6_jump_1 rfl ?_ | refine wa_aload_nq (pc := 1) (y := mX6_jump) dX6_jump_1 rfl ?_
    refine wa_iload_n (pc := 2) (y := mX6_jump) dX6_jump_2 rfl ?_
    refine wa_callV (pc := 3) (s_X6_isCue (d := d - 1) (by omega) hI) dX6_jump_3 okX6_isCue q2719 q2721 qs41 mH_o rfl rfl rfl (Nat.le_of_ble_eq_true rfl) (Nat.le_of_ble_eq_true rfl) (by omega) ?_
    rintro _ _ - - ⟨rfl, rfl⟩
    refine aft_v (pc2 := 6) ?_ rfl
    rw [isC_some hp]
    refine wa_if_eq (pc := 6) 13 dX6_jump_6 rfl (fun hb6 => absurd hb6 (by decide)) (fun hb6 => ?_)
    refine wa_iconst (pc := 9) (y := mX6_jump) (Int32.ofNat 0) dX6_jump_9 rfl ?_
    refine wa_goto (pc := 10) (y := mX6_jump) 14 dX6_jump_10 rfl ?_
    refine wa_putf (pc := 14) (y := mX6_jump) (k := 5) 7 .int dX6_jump_14 mH_o rfl q2650 (Or.inl rfl) (Nat.le_of_ble_eq_true rfl) rfl (by decide +kernel) rfl rfl ?_
    rw [mW_o7]
    first | refine wa_aload_n (pc := 17) (y := mX6_jump) dX6_jump_17 rfl ?_ | refine wa_aload_nN (pc := 17) (y := mX6_jump) dX6_jump_17 rfl ?_ | refine wa_aload_nq (pc := 17) (y := mX6_jump) dX6_jump_17 rfl ?_
    refine wa_getf (pc := 18) (y := mX6_jump) (k := 5) 7 dX6_jump_18 mH_o rfl q2650 (Or.inl rfl) (Nat.le_of_ble_eq_true rfl) (by rfl) ?_
    show WA _ _ _ _ _ (.int (Int32.ofNat 0) :: _) _ _
    refine wa_if_le (pc := 21) 26 dX6_jump_21 rfl (fun hb21 => ?_) (fun hb21 => absurd hb21 (by decide))
    clear hb21
    first | refine wa_aload_n (pc := 26) (y := mX6_jump) dX6_jump_26 rfl ?_ | refine wa_aload_nN (pc := 26) (y := mX6_jump) dX6_jump_26 rfl ?_ | refine wa_aload_nq (pc := 26) (y := mX6_jump) dX6_jump_26 rfl ?_
    refine wa_callV (pc := 27) (s_X6_changes (d := d - 1) (by omega) hpm) dX6_jump_27 okX6_changes q2742 q2744 qs44 mH_o rfl rfl rfl (Nat.le_of_ble_eq_true rfl) (Nat.le_of_ble_eq_true rfl) (by omega) ?_
    rintro _ _ - - ⟨rfl, rfl⟩
    refine aft_0 (pc2 := 30) ?_ rfl
    first | refine wa_aload_n (pc := 30) (y := mX6_jump) dX6_jump_30 rfl ?_ | refine wa_aload_nN (pc := 30) (y := mX6_jump) dX6_jump_30 rfl ?_ | refine wa_aload_nq (pc := 30) (y := mX6_jump) dX6_jump_30 rfl ?_
    refine wa_iload_n (pc := 31) (y := mX6_jump) dX6_jump_31 rfl ?_
    refine wa_callV (pc := 32) (s_X6_goes (d := d - 1) (by omega) hI hp) dX6_jump_32 okX6_goes q2918 q2920 qs68 mH_o rfl rfl rfl (Nat.le_of_ble_eq_true rfl) (Nat.le_of_ble_eq_true rfl) (by omega) ?_
    rintro _ _ - - ⟨rfl, rfl⟩
    refine aft_v (pc2 := 35) ?_ rfl
    exact wa_ireturn (pc := 35) (y := mX6_jump) .int dX6_jump_35 rfl rfl ⟨rfl, rfl⟩
theorem s_X6_pass {t : Int32} (hd : 5 ≤ d) (hI : Inv f) (hpm : u (σ.2 5) ≤ 6) : MA G d mX6_pass [.ref m, .int t] (mH h m f σ) (fun r h' => r = .inl (some (.int (O_pass f σ t).2.1)) ∧ h' = mH h m (O_pass f σ t).2.2.1 (O_pass f σ t).2.2.2) := by
  show WA _ _ _ 0 [.ref m, .int _, .retAddr 0] [] _ _
  have hle := dPs_le (f := f) (t := t)
  by_cases e : (dPs f t).1 = 0
  · rw [show O_pass f σ t = _ from if_pos e]
    first | refine wa_aload_n (pc := 0) (y := mX6_pass) dX6_pass_0 rfl ?_ | refine wa_aload_nN (pc := 0) (y := mX6_pass) dX6_pass_0 rfl ?_ | refine wa_aload_nq (pc := 0) (y := mX6_pass) dX6_pass_0 rfl ?_
    refine wa_getf (pc := 1) (y := mX6_pass) (k := 5) 0 dX6_pass_1 mH_o rfl q2643 (Or.inl rfl) (Nat.le_of_ble_eq_true rfl) (by rfl) ?_
    refine wa_iconst (pc := 4) (y := mX6_pass) (Int32.ofNat 4) dX6_pass_4 rfl ?_
    refine wa_ialoadN (pc := 5) (y := mX6_pass) dX6_pass_5 mH_1 (by omega) ?_
    refine wa_istore_n (pc := 6) (y := mX6_pass) dX6_pass_6 (Nat.le_of_ble_eq_true rfl) rfl ?_
    change WA _ _ _ _ (List.set _ 2 _) _ _ _
    simp only [List.set_cons_zero, List.set_cons_succ]
    first | refine wa_aload_n (pc := 7) (y := mX6_pass) dX6_pass_7 rfl ?_ | refine wa_aload_nN (pc := 7) (y := mX6_pass) dX6_pass_7 rfl ?_ | refine wa_aload_nq (pc := 7) (y := mX6_pass) dX6_pass_7 rfl ?_
    refine wa_callV (pc := 8) (s_X6_keepState (d := d - 1) (by omega)) dX6_pass_8 okX6_keepState q2707 q2709 qs39 mH_o rfl rfl rfl (Nat.le_of_ble_eq_true rfl) (Nat.le_of_ble_eq_true rfl) (by omega) ?_
    rintro _ _ - - ⟨rfl, rfl⟩
    refine aft_0 (pc2 := 11) ?_ rfl
    first | refine wa_aload_n (pc := 11) (y := mX6_pass) dX6_pass_11 rfl ?_ | refine wa_aload_nN (pc := 11) (y := mX6_pass) dX6_pass_11 rfl ?_ | refine wa_aload_nq (pc := 11) (y := mX6_pass) dX6_pass_11 rfl ?_
    first | refine wa_aload_n (pc := 12) (y := mX6_pass) dX6_pass_12 rfl ?_ | refine wa_aload_nN (pc := 12) (y := mX6_pass) dX6_pass_12 rfl ?_ | refine wa_aload_nq (pc := 12) (y := mX6_pass) dX6_pass_12 rfl ?_
    refine wa_iload_n (pc := 13) (y := mX6_pass) dX6_pass_13 rfl ?_
    refine wa_callV (pc := 14) (s_X6_doPass (d := d - 1) (by omega) hI) dX6_pass_14 okX6_doPass q2941 q2943 qs70 mH_o rfl rfl rfl (Nat.le_of_ble_eq_true rfl) (Nat.le_of_ble_eq_true rfl) (by omega) ?_
    rintro _ _ - - ⟨rfl, rfl⟩
    refine aft_v (pc2 := 17) ?_ rfl
    rw [e]
    refine wa_putf (pc := 17) (y := mX6_pass) (k := 5) 7 .int dX6_pass_17 mH_o rfl q2650 (Or.inl rfl) (Nat.le_of_ble_eq_true rfl) rfl (by decide +kernel) rfl rfl ?_
    rw [mW_o7]
    first | refine wa_aload_n (pc := 20) (y := mX6_pass) dX6_pass_20 rfl ?_ | refine wa_aload_nN (pc := 20) (y := mX6_pass) dX6_pass_20 rfl ?_ | refine wa_aload_nq (pc := 20) (y := mX6_pass) dX6_pass_20 rfl ?_
    refine wa_getf (pc := 21) (y := mX6_pass) (k := 5) 7 dX6_pass_21 mH_o rfl q2650 (Or.inl rfl) (Nat.le_of_ble_eq_true rfl) (by rfl) ?_
    rw [mV_s]
    refine wa_if_le (pc := 24) 29 dX6_pass_24 rfl (fun hb24 => ?_) (fun hb24 => absurd (by decide) hb24)
    first | refine wa_aload_n (pc := 29) (y := mX6_pass) dX6_pass_29 rfl ?_ | refine wa_aload_nN (pc := 29) (y := mX6_pass) dX6_pass_29 rfl ?_ | refine wa_aload_nq (pc := 29) (y := mX6_pass) dX6_pass_29 rfl ?_
    refine wa_callV (pc := 30) (s_X6_change (d := d - 1) (by omega) hpm) dX6_pass_30 okX6_change q2730 q2732 qs43 mH_o rfl rfl rfl (Nat.le_of_ble_eq_true rfl) (Nat.le_of_ble_eq_true rfl) (by omega) ?_
    rintro _ _ - - ⟨rfl, rfl⟩
    refine aft_0 (pc2 := 33) ?_ rfl
    first | refine wa_aload_n (pc := 33) (y := mX6_pass) dX6_pass_33 rfl ?_ | refine wa_aload_nN (pc := 33) (y := mX6_pass) dX6_pass_33 rfl ?_ | refine wa_aload_nq (pc := 33) (y := mX6_pass) dX6_pass_33 rfl ?_
    refine wa_getf (pc := 34) (y := mX6_pass) (k := 5) 0 dX6_pass_34 mH_o rfl q2643 (Or.inl rfl) (Nat.le_of_ble_eq_true rfl) (by rfl) ?_
    refine wa_iconst (pc := 37) (y := mX6_pass) (Int32.ofNat 4) dX6_pass_37 rfl ?_
    refine wa_ialoadN (pc := 38) (y := mX6_pass) dX6_pass_38 mH_1 (by omega) ?_
    refine wa_iload_n (pc := 39) (y := mX6_pass) dX6_pass_39 rfl ?_
    refine wa_isub (pc := 40) (y := mX6_pass) dX6_pass_40 ?_
    exact wa_ireturn (pc := 41) (y := mX6_pass) .int dX6_pass_41 rfl rfl ⟨rfl, rfl⟩
  · rw [show O_pass f σ t = _ from if_neg e]
    first | refine wa_aload_n (pc := 0) (y := mX6_pass) dX6_pass_0 rfl ?_ | refine wa_aload_nN (pc := 0) (y := mX6_pass) dX6_pass_0 rfl ?_ | refine wa_aload_nq (pc := 0) (y := mX6_pass) dX6_pass_0 rfl ?_
    refine wa_getf (pc := 1) (y := mX6_pass) (k := 5) 0 dX6_pass_1 mH_o rfl q2643 (Or.inl rfl) (Nat.le_of_ble_eq_true rfl) (by rfl) ?_
    refine wa_iconst (pc := 4) (y := mX6_pass) (Int32.ofNat 4) dX6_pass_4 rfl ?_
    refine wa_ialoadN (pc := 5) (y := mX6_pass) dX6_pass_5 mH_1 (by omega) ?_
    refine wa_istore_n (pc := 6) (y := mX6_pass) dX6_pass_6 (Nat.le_of_ble_eq_true rfl) rfl ?_
    change WA _ _ _ _ (List.set _ 2 _) _ _ _
    simp only [List.set_cons_zero, List.set_cons_succ]
    first | refine wa_aload_n (pc := 7) (y := mX6_pass) dX6_pass_7 rfl ?_ | refine wa_aload_nN (pc := 7) (y := mX6_pass) dX6_pass_7 rfl ?_ | refine wa_aload_nq (pc := 7) (y := mX6_pass) dX6_pass_7 rfl ?_
    refine wa_callV (pc := 8) (s_X6_keepState (d := d - 1) (by omega)) dX6_pass_8 okX6_keepState q2707 q2709 qs39 mH_o rfl rfl rfl (Nat.le_of_ble_eq_true rfl) (Nat.le_of_ble_eq_true rfl) (by omega) ?_
    rintro _ _ - - ⟨rfl, rfl⟩
    refine aft_0 (pc2 := 11) ?_ rfl
    first | refine wa_aload_n (pc := 11) (y := mX6_pass) dX6_pass_11 rfl ?_ | refine wa_aload_nN (pc := 11) (y := mX6_pass) dX6_pass_11 rfl ?_ | refine wa_aload_nq (pc := 11) (y := mX6_pass) dX6_pass_11 rfl ?_
    first | refine wa_aload_n (pc := 12) (y := mX6_pass) dX6_pass_12 rfl ?_ | refine wa_aload_nN (pc := 12) (y := mX6_pass) dX6_pass_12 rfl ?_ | refine wa_aload_nq (pc := 12) (y := mX6_pass) dX6_pass_12 rfl ?_
    refine wa_iload_n (pc := 13) (y := mX6_pass) dX6_pass_13 rfl ?_
    refine wa_callV (pc := 14) (s_X6_doPass (d := d - 1) (by omega) hI) dX6_pass_14 okX6_doPass q2941 q2943 qs70 mH_o rfl rfl rfl (Nat.le_of_ble_eq_true rfl) (Nat.le_of_ble_eq_true rfl) (by omega) ?_
    rintro _ _ - - ⟨rfl, rfl⟩
    refine aft_v (pc2 := 17) ?_ rfl
    refine wa_putf (pc := 17) (y := mX6_pass) (k := 5) 7 .int dX6_pass_17 mH_o rfl q2650 (Or.inl rfl) (Nat.le_of_ble_eq_true rfl) rfl (by decide +kernel) rfl rfl ?_
    rw [mW_o7]
    first | refine wa_aload_n (pc := 20) (y := mX6_pass) dX6_pass_20 rfl ?_ | refine wa_aload_nN (pc := 20) (y := mX6_pass) dX6_pass_20 rfl ?_ | refine wa_aload_nq (pc := 20) (y := mX6_pass) dX6_pass_20 rfl ?_
    refine wa_getf (pc := 21) (y := mX6_pass) (k := 5) 7 dX6_pass_21 mH_o rfl q2650 (Or.inl rfl) (Nat.le_of_ble_eq_true rfl) (by rfl) ?_
    rw [mV_s]
    refine wa_if_le (pc := 24) 29 dX6_pass_24 rfl (fun hb24 => absurd ((iN_pos (by omega)).mp hb24) e) (fun hb24 => ?_)
    refine wa_iconst (pc := 27) (y := mX6_pass) (Int32.ofNat 0) dX6_pass_27 rfl ?_
    exact wa_ireturn (pc := 28) (y := mX6_pass) .int dX6_pass_28 rfl rfl ⟨rfl, rfl⟩
theorem s_X6_now {c : Int32} (hd : 3 ≤ d) : MA G d mX6_now [.ref m, .int c] (mH h m f σ) (fun r h' => r = .inl (some (.int (O_now f σ c).2.1)) ∧ h' = mH h m (O_now f σ c).2.2.1 (O_now f σ c).2.2.2) := by
  show WA _ _ _ 0 [.ref m, .int _] [] _ _
  by_cases e : u c < 12
  · rw [show O_now f σ c = _ from if_neg (fun x => x e)]
    first | refine wa_aload_n (pc := 0) (y := mX6_now) dX6_now_0 rfl ?_ | refine wa_aload_nN (pc := 0) (y := mX6_now) dX6_now_0 rfl ?_ | refine wa_aload_nq (pc := 0) (y := mX6_now) dX6_now_0 rfl ?_
    refine wa_iload_n (pc := 1) (y := mX6_now) dX6_now_1 rfl ?_
    refine wa_callS (pc := 2) (s_X6_isChannel (d := d - 1) (by omega)) dX6_now_2 okX6_isChannel q2810 q2811 rfl rfl (Nat.le_of_ble_eq_true rfl) (Nat.le_of_ble_eq_true rfl) (by omega) ?_
    rintro _ _ - - ⟨rfl, rfl⟩
    refine aft_v (pc2 := 5) ?_ rfl
    rw [inb11, decide_eq_true e]
    refine wa_if_eq (pc := 5) 12 dX6_now_5 rfl (fun hb5 => absurd hb5 (by decide)) (fun hb5 => ?_)
    refine wa_iconst (pc := 8) (y := mX6_now) (Int32.ofNat 0) dX6_now_8 rfl ?_
    refine wa_goto (pc := 9) (y := mX6_now) 13 dX6_now_9 rfl ?_
    refine wa_putf (pc := 13) (y := mX6_now) (k := 5) 7 .int dX6_now_13 mH_o rfl q2650 (Or.inl rfl) (Nat.le_of_ble_eq_true rfl) rfl (by decide +kernel) rfl rfl ?_
    rw [mW_o7]
    first | refine wa_aload_n (pc := 16) (y := mX6_now) dX6_now_16 rfl ?_ | refine wa_aload_nN (pc := 16) (y := mX6_now) dX6_now_16 rfl ?_ | refine wa_aload_nq (pc := 16) (y := mX6_now) dX6_now_16 rfl ?_
    refine wa_getf (pc := 17) (y := mX6_now) (k := 5) 7 dX6_now_17 mH_o rfl q2650 (Or.inl rfl) (Nat.le_of_ble_eq_true rfl) (by rfl) ?_
    show WA _ _ _ _ _ (.int (Int32.ofNat 0) :: _) _ _
    refine wa_if_le (pc := 20) 27 dX6_now_20 rfl (fun hb20 => ?_) (fun hb20 => absurd hb20 (by decide))
    clear hb20
    first | refine wa_aload_n (pc := 27) (y := mX6_now) dX6_now_27 rfl ?_ | refine wa_aload_nN (pc := 27) (y := mX6_now) dX6_now_27 rfl ?_ | refine wa_aload_nq (pc := 27) (y := mX6_now) dX6_now_27 rfl ?_
    refine wa_iload_n (pc := 28) (y := mX6_now) dX6_now_28 (x := Int32.ofNat (u c)) (by rw [u_self]; rfl) ?_
    refine wa_callV (pc := 29) (s_X6_nowOf (d := d - 1) (by omega) e) dX6_now_29 okX6_nowOf q2925 q2927 qs69 mH_o rfl rfl rfl (Nat.le_of_ble_eq_true rfl) (Nat.le_of_ble_eq_true rfl) (by omega) ?_
    rintro _ _ - - ⟨rfl, rfl⟩
    refine aft_v (pc2 := 32) ?_ rfl
    exact wa_ireturn (pc := 32) (y := mX6_now) .int dX6_now_32 rfl rfl ⟨rfl, rfl⟩
  · rw [show O_now f σ c = _ from if_pos e]
    first | refine wa_aload_n (pc := 0) (y := mX6_now) dX6_now_0 rfl ?_ | refine wa_aload_nN (pc := 0) (y := mX6_now) dX6_now_0 rfl ?_ | refine wa_aload_nq (pc := 0) (y := mX6_now) dX6_now_0 rfl ?_
    refine wa_iload_n (pc := 1) (y := mX6_now) dX6_now_1 rfl ?_
    refine wa_callS (pc := 2) (s_X6_isChannel (d := d - 1) (by omega)) dX6_now_2 okX6_isChannel q2810 q2811 rfl rfl (Nat.le_of_ble_eq_true rfl) (Nat.le_of_ble_eq_true rfl) (by omega) ?_
    rintro _ _ - - ⟨rfl, rfl⟩
    refine aft_v (pc2 := 5) ?_ rfl
    rw [inb11, decide_eq_false e]
    refine wa_if_eq (pc := 5) 12 dX6_now_5 rfl (fun hb5 => ?_) (fun hb5 => absurd rfl hb5)
    refine wa_iconst (pc := 12) (y := mX6_now) (Int32.ofNat 1) dX6_now_12 rfl ?_
    refine wa_putf (pc := 13) (y := mX6_now) (k := 5) 7 .int dX6_now_13 mH_o rfl q2650 (Or.inl rfl) (Nat.le_of_ble_eq_true rfl) rfl (by decide +kernel) rfl rfl ?_
    rw [mW_o7]
    first | refine wa_aload_n (pc := 16) (y := mX6_now) dX6_now_16 rfl ?_ | refine wa_aload_nN (pc := 16) (y := mX6_now) dX6_now_16 rfl ?_ | refine wa_aload_nq (pc := 16) (y := mX6_now) dX6_now_16 rfl ?_
    refine wa_getf (pc := 17) (y := mX6_now) (k := 5) 7 dX6_now_17 mH_o rfl q2650 (Or.inl rfl) (Nat.le_of_ble_eq_true rfl) (by rfl) ?_
    show WA _ _ _ _ _ (.int (Int32.ofNat 1) :: _) _ _
    refine wa_if_le (pc := 20) 27 dX6_now_20 rfl (fun hb20 => absurd hb20 (by decide)) (fun hb20 => ?_)
    clear hb20
    refine wa_iconst (pc := 23) (y := mX6_now) (Int32.ofNat 0) dX6_now_23 rfl ?_
    refine wa_goto (pc := 24) (y := mX6_now) 32 dX6_now_24 rfl ?_
    exact wa_ireturn (pc := 32) (y := mX6_now) .int dX6_now_32 rfl rfl ⟨rfl, rfl⟩
theorem s_X6_target {c : Int32} (hd : 3 ≤ d) : MA G d mX6_target [.ref m, .int c] (mH h m f σ) (fun r h' => r = .inl (some (.int (O_target f σ c).2.1)) ∧ h' = mH h m (O_target f σ c).2.2.1 (O_target f σ c).2.2.2) := by
  show WA _ _ _ 0 [.ref m, .int _] [] _ _
  by_cases e : u c < 12
  · rw [show O_target f σ c = _ from if_neg (fun x => x e)]
    first | refine wa_aload_n (pc := 0) (y := mX6_target) dX6_target_0 rfl ?_ | refine wa_aload_nN (pc := 0) (y := mX6_target) dX6_target_0 rfl ?_ | refine wa_aload_nq (pc := 0) (y := mX6_target) dX6_target_0 rfl ?_
    refine wa_iload_n (pc := 1) (y := mX6_target) dX6_target_1 rfl ?_
    refine wa_callS (pc := 2) (s_X6_isChannel (d := d - 1) (by omega)) dX6_target_2 okX6_isChannel q2810 q2811 rfl rfl (Nat.le_of_ble_eq_true rfl) (Nat.le_of_ble_eq_true rfl) (by omega) ?_
    rintro _ _ - - ⟨rfl, rfl⟩
    refine aft_v (pc2 := 5) ?_ rfl
    rw [inb11, decide_eq_true e]
    refine wa_if_eq (pc := 5) 12 dX6_target_5 rfl (fun hb5 => absurd hb5 (by decide)) (fun hb5 => ?_)
    refine wa_iconst (pc := 8) (y := mX6_target) (Int32.ofNat 0) dX6_target_8 rfl ?_
    refine wa_goto (pc := 9) (y := mX6_target) 13 dX6_target_9 rfl ?_
    refine wa_putf (pc := 13) (y := mX6_target) (k := 5) 7 .int dX6_target_13 mH_o rfl q2650 (Or.inl rfl) (Nat.le_of_ble_eq_true rfl) rfl (by decide +kernel) rfl rfl ?_
    rw [mW_o7]
    first | refine wa_aload_n (pc := 16) (y := mX6_target) dX6_target_16 rfl ?_ | refine wa_aload_nN (pc := 16) (y := mX6_target) dX6_target_16 rfl ?_ | refine wa_aload_nq (pc := 16) (y := mX6_target) dX6_target_16 rfl ?_
    refine wa_getf (pc := 17) (y := mX6_target) (k := 5) 7 dX6_target_17 mH_o rfl q2650 (Or.inl rfl) (Nat.le_of_ble_eq_true rfl) (by rfl) ?_
    show WA _ _ _ _ _ (.int (Int32.ofNat 0) :: _) _ _
    refine wa_if_le (pc := 20) 27 dX6_target_20 rfl (fun hb20 => ?_) (fun hb20 => absurd hb20 (by decide))
    clear hb20
    first | refine wa_aload_n (pc := 27) (y := mX6_target) dX6_target_27 rfl ?_ | refine wa_aload_nN (pc := 27) (y := mX6_target) dX6_target_27 rfl ?_ | refine wa_aload_nq (pc := 27) (y := mX6_target) dX6_target_27 rfl ?_
    refine wa_getf (pc := 28) (y := mX6_target) (k := 5) 0 dX6_target_28 mH_o rfl q2643 (Or.inl rfl) (Nat.le_of_ble_eq_true rfl) (by rfl) ?_
    refine wa_iload_n (pc := 31) (y := mX6_target) dX6_target_31 (x := Int32.ofNat (u c)) (by rw [u_self]; rfl) ?_
    refine wa_callS (pc := 32) (s_X6_fade (d := d - 1)) dX6_target_32 okX6_fade q2922 q2923 rfl rfl (Nat.le_of_ble_eq_true rfl) (Nat.le_of_ble_eq_true rfl) (by omega) ?_
    rintro _ _ - - ⟨rfl, rfl⟩
    refine aft_v (pc2 := 35) ?_ rfl
    refine wa_iconst (pc := 35) (y := mX6_target) (Int32.ofNat 1) dX6_target_35 rfl ?_
    first | with_reducible refine wa_iaddN (pc := 36) (y := mX6_target) dX6_target_36 ?_ | refine wa_iadd (pc := 36) (y := mX6_target) dX6_target_36 ?_
    refine wa_ialoadN (pc := 37) (y := mX6_target) dX6_target_37 mH_1 (by omega) ?_
    exact wa_ireturn (pc := 38) (y := mX6_target) .int dX6_target_38 rfl rfl ⟨rfl, rfl⟩
  · rw [show O_target f σ c = _ from if_pos e]
    first | refine wa_aload_n (pc := 0) (y := mX6_target) dX6_target_0 rfl ?_ | refine wa_aload_nN (pc := 0) (y := mX6_target) dX6_target_0 rfl ?_ | refine wa_aload_nq (pc := 0) (y := mX6_target) dX6_target_0 rfl ?_
    refine wa_iload_n (pc := 1) (y := mX6_target) dX6_target_1 rfl ?_
    refine wa_callS (pc := 2) (s_X6_isChannel (d := d - 1) (by omega)) dX6_target_2 okX6_isChannel q2810 q2811 rfl rfl (Nat.le_of_ble_eq_true rfl) (Nat.le_of_ble_eq_true rfl) (by omega) ?_
    rintro _ _ - - ⟨rfl, rfl⟩
    refine aft_v (pc2 := 5) ?_ rfl
    rw [inb11, decide_eq_false e]
    refine wa_if_eq (pc := 5) 12 dX6_target_5 rfl (fun hb5 => ?_) (fun hb5 => absurd rfl hb5)
    refine wa_iconst (pc := 12) (y := mX6_target) (Int32.ofNat 1) dX6_target_12 rfl ?_
    refine wa_putf (pc := 13) (y := mX6_target) (k := 5) 7 .int dX6_target_13 mH_o rfl q2650 (Or.inl rfl) (Nat.le_of_ble_eq_true rfl) rfl (by decide +kernel) rfl rfl ?_
    rw [mW_o7]
    first | refine wa_aload_n (pc := 16) (y := mX6_target) dX6_target_16 rfl ?_ | refine wa_aload_nN (pc := 16) (y := mX6_target) dX6_target_16 rfl ?_ | refine wa_aload_nq (pc := 16) (y := mX6_target) dX6_target_16 rfl ?_
    refine wa_getf (pc := 17) (y := mX6_target) (k := 5) 7 dX6_target_17 mH_o rfl q2650 (Or.inl rfl) (Nat.le_of_ble_eq_true rfl) (by rfl) ?_
    show WA _ _ _ _ _ (.int (Int32.ofNat 1) :: _) _ _
    refine wa_if_le (pc := 20) 27 dX6_target_20 rfl (fun hb20 => absurd hb20 (by decide)) (fun hb20 => ?_)
    clear hb20
    refine wa_iconst (pc := 23) (y := mX6_target) (Int32.ofNat 0) dX6_target_23 rfl ?_
    refine wa_goto (pc := 24) (y := mX6_target) 38 dX6_target_24 rfl ?_
    exact wa_ireturn (pc := 38) (y := mX6_target) .int dX6_target_38 rfl rfl ⟨rfl, rfl⟩
end MTOP3
