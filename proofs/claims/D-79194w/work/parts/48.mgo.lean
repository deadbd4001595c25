/-! ===== CueStackModel: goes, follows, doGo, doPass ===== -/
def gsS (f : Nat → Int32) (cue : Int32) (p c : Nat) : Nat → Int32 := if lvN f c (p + 1) = f (402 + 5 * c + 1) then f else
  upd (upd (upd (upd (upd f (402 + 5 * c) (nowF f c)) (402 + 5 * c + 1) (lvN f c (p + 1))) (402 + 5 * c + 2) 0) (402 + 5 * c + 3) (f (18 + 12 * p + 4 + 2 * ptO f cue c))) (402 + 5 * c + 4) (f (18 + 12 * p + 4 + 2 * ptO f cue c + 1))
def gsN (f : Nat → Int32) (cue : Int32) (p : Nat) : Nat → (Nat → Int32)
  | 0 => f
  | c + 1 => gsS (gsN f cue p c) cue p c
def gsC (f : Nat → Int32) (cue : Int32) (p : Nat) : Nat → Int32
  | 0 => 0
  | c + 1 => if lvN (gsN f cue p c) c (p + 1) = gsN f cue p c (402 + 5 * c + 1) then gsC f cue p c else gsC f cue p c + 1
def goF (f : Nat → Int32) (cue : Int32) (p : Nat) : Nat → Int32 := upd (upd (upd (gsN f cue p 12) 2 cue) 3 0) 4 (gsN f cue p 12 4 + 1)
theorem gsS_lo {f : Nat → Int32} {cue : Int32} {p c j : Nat} (h : j < 402) : gsS f cue p c j = f j := by
  unfold gsS
  split
  · rfl
  · rw [upd_o _ _ (by omega), upd_o _ _ (by omega), upd_o _ _ (by omega), upd_o _ _ (by omega), upd_o _ _ (by omega)]
theorem gsN_lo {f : Nat → Int32} {cue : Int32} {p j : Nat} (h : j < 402) : ∀ {c : Nat}, gsN f cue p c j = f j
  | 0 => rfl
  | c + 1 => by
    show gsS _ cue p c j = _
    rw [gsS_lo h, gsN_lo h]
theorem gsN_eqv {f : Nat → Int32} {cue : Int32} {p c : Nat} : Eqv f (gsN f cue p c) := fun j h _ _ _ _ => (gsN_lo h).symm
theorem goF_eqv {f : Nat → Int32} {cue : Int32} {p : Nat} : Eqv f (goF f cue p) := fun j h h2 h3 h4 h5 => by
  unfold goF
  rw [upd_o _ _ h4, upd_o _ _ h3, upd_o _ _ h2, gsN_lo h]
def goX (f : Nat → Int32) (cue : Int32) : Nat → Int32 := match pl f cue with
  | some p => goF f cue p
  | none => f
theorem goX_inv {f : Nat → Int32} {cue : Int32} (hI : Inv f) : Inv (goX f cue) := by
  unfold goX
  split
  · exact goF_eqv.inv hI
  · exact hI
theorem pl_is {f : Nat → Int32} {k : Nat} (h : k < u (f 0)) : ∃ p, pl f (f (18 + 12 * k)) = some p := by
  cases e : pl f (f (18 + 12 * k)) with
  | some p => exact ⟨p, rfl⟩
  | none => exact absurd rfl (pl_none e k h)
theorem nxg_is {f : Nat → Int32} {n : Int32} : ∀ {t k : Nat}, nxg f n t k ≠ 0 → ∃ q, q < k + t ∧ nxg f n t k = f (18 + 12 * q)
  | 0, _, h => absurd rfl h
  | t + 1, k, h => by
    unfold nxg at h ⊢
    split
    · exact ⟨k, by omega, rfl⟩
    · rename_i e
      rw [if_neg e] at h
      obtain ⟨q, a, b⟩ := nxg_is h
      exact ⟨q, by omega, b⟩
theorem nx_pl {f : Nat → Int32} {n : Int32} (h : nx f n ≠ 0) : ∃ p, pl f (nx f n) = some p := by
  obtain ⟨q, a, b⟩ := nxg_is h
  have := pl_is (f := f) (k := q) (by omega)
  rw [← b] at this
  exact this
theorem ahN_is {f : Nat → Int32} {n : Int32} : ∀ {k : Nat}, ahN f n k ≠ 0 → ∃ q, q < k ∧ ahN f n k = f (18 + 12 * q)
  | 0, h => absurd rfl h
  | k + 1, h => by
    unfold ahN at h ⊢
    split
    · exact ⟨k, by omega, rfl⟩
    · rename_i e
      rw [if_neg e] at h
      obtain ⟨q, a, b⟩ := ahN_is h
      exact ⟨q, by omega, b⟩
theorem ah_pl {f : Nat → Int32} {n : Int32} (h : ahN f n (u (f 0)) ≠ 0) : ∃ p, pl f (ahN f n (u (f 0))) = some p := by
  obtain ⟨q, a, b⟩ := ahN_is h
  have := pl_is (f := f) (k := q) a
  rw [← b] at this
  exact this
/-- follows -/
def flB (f : Nat → Int32) : Bool := !decide (f 2 = 0) && match pl f (f 2) with
  | none => false
  | some p => decide (0 < f (18 + 12 * p + 1)) && decide (0 < nx f (f 2))
def sgN (f : Nat → Int32) : Nat → (Nat → Int32)
  | 0 => f
  | c + 1 => upd (sgN f c) (402 + 5 * c + 2) (sgN f c (402 + 5 * c + 2) + 1)
theorem sgN_lo {f : Nat → Int32} {j : Nat} (h : j < 402) : ∀ {c : Nat}, sgN f c j = f j
  | 0 => rfl
  | c + 1 => by
    show upd _ _ _ j = _
    rw [upd_o _ _ (by omega), sgN_lo h]
/-- a tenth: the clocks -/
def tk1 (f : Nat → Int32) : Nat → Int32 := sgN (upd (upd f 5 (f 5 + 1)) 3 (f 3 + (if 0 < f 2 then 1 else 0))) 12
def goB (f : Nat → Int32) : Bool := flB f && match pl f (f 2) with
  | none => false
  | some p => decide (f (18 + 12 * p + 1) ≤ f 3)
def tk2 (f : Nat → Int32) : Nat → Int32 := if goB f then goX f (nx f (f 2)) else f
def tkN (f : Nat → Int32) : Nat → (Nat → Int32)
  | 0 => f
  | k + 1 => tk2 (tk1 (tkN f k))
theorem tk1_eqv {f : Nat → Int32} : Eqv f (tk1 f) := fun j h h2 h3 h4 h5 => by
  unfold tk1
  rw [sgN_lo h, upd_o _ _ h3, upd_o _ _ h5]
theorem tk2_inv {f : Nat → Int32} (hI : Inv f) : Inv (tk2 f) := by
  unfold tk2
  split
  · exact goX_inv hI
  · exact hI
theorem tkN_inv {f : Nat → Int32} (hI : Inv f) : ∀ {k : Nat}, Inv (tkN f k)
  | 0 => hI
  | k + 1 => tk2_inv (tk1_eqv.inv (tkN_inv hI))
/-- doPass -/
def dPs (f : Nat → Int32) (t : Int32) : Nat × (Nat → Int32) := if inb t 0 6000 = false then (1, f) else if 100000 < f 5 + t then (2, f) else (0, tkN f (u t))
/-- doGo -/
def dGo (f : Nat → Int32) (σ : MS) (b : Bool) : Nat × (Nat → Int32) × MS :=
  if (if b then ahN f (f 2) (u (f 0)) else nx f (f 2)) = 0 then ((if b then 5 else 4), σ.1 1, mV σ 6 (Int32.ofNat (if b then 5 else 4)))
  else (0, goX f (if b then ahN f (f 2) (u (f 0)) else nx f (f 2)), σ)
section MGO
variable {G : GG} {d : Nat} {h : AH} {m : Nat} {f : Nat → Int32} {σ : MS}
theorem s_X6_goes {cue : Int32} {p : Nat} (hd : 3 ≤ d) (hI : Inv f) (hp : pl f cue = some p) : MA G d mX6_goes [.ref m, .int cue] (mH h m f σ) (fun r h' => r = .inl (some (.int (gsC f cue p 12))) ∧ h' = mH h m (goF f cue p) σ) := by
  have hn := hI.1
  have hps := pl_some hp
  show WA _ _ _ 0 [.ref m, .int _, .retAddr 0, .retAddr 0, .retAddr 0, .retAddr 0, .retAddr 0, .retAddr 0] [] _ _
  have key : ∀ t c q1 q2 q3, c + t = 12 → WA G d mX6_goes 11 [.ref m, .int cue, .int (gsC f cue p c), .int (Int32.ofNat p), .int (Int32.ofNat c), q1, q2, q3] [] (mH h m (gsN f cue p c) σ) (fun r h' => r = .inl (some (.int (gsC f cue p 12))) ∧ h' = mH h m (goF f cue p) σ) := by
    intro t
    induction t with
    | zero =>
      intro c q1 q2 q3 hc
      obtain rfl : c = 12 := hc
      refine wa_iload (pc := 11) (y := mX6_goes) dX6_goes_11 rfl ?_
      refine wa_bipush (pc := 13) (y := mX6_goes) (Int32.ofNat 12) dX6_goes_13 rfl ?_
      refine wa_icmp_ge (pc := 15) 144 dX6_goes_15 rfl (fun hb15 => ?_) (fun hb15 => absurd ((iN_le (by omega) (by omega)).mpr (by omega)) hb15)
      first | refine wa_aload_n (pc := 144) (y := mX6_goes) dX6_goes_144 rfl ?_ | refine wa_aload_nN (pc := 144) (y := mX6_goes) dX6_goes_144 rfl ?_ | refine wa_aload_nq (pc := 144) (y := mX6_goes) dX6_goes_144 rfl ?_
      refine wa_getf (pc := 145) (y := mX6_goes) (k := 5) 0 dX6_goes_145 mH_o rfl q2643 (Or.inl rfl) (Nat.le_of_ble_eq_true rfl) (by rfl) ?_
      refine wa_iconst (pc := 148) (y := mX6_goes) (Int32.ofNat 2) dX6_goes_148 rfl ?_
      refine wa_iload_n (pc := 149) (y := mX6_goes) dX6_goes_149 rfl ?_
      refine wa_iastoreN (pc := 150) (y := mX6_goes) dX6_goes_150 mH_1 (by omega) ?_
      rw [mW_1]
      first | refine wa_aload_n (pc := 151) (y := mX6_goes) dX6_goes_151 rfl ?_ | refine wa_aload_nN (pc := 151) (y := mX6_goes) dX6_goes_151 rfl ?_ | refine wa_aload_nq (pc := 151) (y := mX6_goes) dX6_goes_151 rfl ?_
      refine wa_getf (pc := 152) (y := mX6_goes) (k := 5) 0 dX6_goes_152 mH_o rfl q2643 (Or.inl rfl) (Nat.le_of_ble_eq_true rfl) (by rfl) ?_
      refine wa_iconst (pc := 155) (y := mX6_goes) (Int32.ofNat 3) dX6_goes_155 rfl ?_
      refine wa_iconst (pc := 156) (y := mX6_goes) (Int32.ofNat 0) dX6_goes_156 rfl ?_
      refine wa_iastoreN (pc := 157) (y := mX6_goes) dX6_goes_157 mH_1 (by omega) ?_
      rw [mW_1]
      first | refine wa_aload_n (pc := 158) (y := mX6_goes) dX6_goes_158 rfl ?_ | refine wa_aload_nN (pc := 158) (y := mX6_goes) dX6_goes_158 rfl ?_ | refine wa_aload_nq (pc := 158) (y := mX6_goes) dX6_goes_158 rfl ?_
      refine wa_getf (pc := 159) (y := mX6_goes) (k := 5) 0 dX6_goes_159 mH_o rfl q2643 (Or.inl rfl) (Nat.le_of_ble_eq_true rfl) (by rfl) ?_
      refine wa_iconst (pc := 162) (y := mX6_goes) (Int32.ofNat 4) dX6_goes_162 rfl ?_
      refine wa_dup2 (pc := 163) (y := mX6_goes) dX6_goes_163 rfl rfl ?_
      refine wa_ialoadN (pc := 164) (y := mX6_goes) dX6_goes_164 mH_1 (by omega) ?_
      rw [upd_o _ _ (by omega), upd_o _ _ (by omega)]
      refine wa_iconst (pc := 165) (y := mX6_goes) (Int32.ofNat 1) dX6_goes_165 rfl ?_
      first | with_reducible refine wa_iaddN (pc := 166) (y := mX6_goes) dX6_goes_166 ?_ | refine wa_iadd (pc := 166) (y := mX6_goes) dX6_goes_166 ?_
      refine wa_iastoreN (pc := 167) (y := mX6_goes) dX6_goes_167 mH_1 (by omega) ?_
      rw [mW_1]
      refine wa_iload_n (pc := 168) (y := mX6_goes) dX6_goes_168 rfl ?_
      exact wa_ireturn (pc := 169) (y := mX6_goes) .int dX6_goes_169 rfl rfl ⟨rfl, rfl⟩
    | succ t ih =>
      intro c q1 q2 q3 hc
      have eq := gsN_eqv (f := f) (cue := cue) (p := p) (c := c)
      have ihc := fun q1 q2 q3 => ih (c + 1) q1 q2 q3 (by omega)
      replace ihc : ∀ q1 q2 q3, WA G d mX6_goes 11 [.ref m, .int cue, .int (if lvN (gsN f cue p c) c (p + 1) = gsN f cue p c (402 + 5 * c + 1) then gsC f cue p c else gsC f cue p c + 1), .int (Int32.ofNat p), .int (Int32.ofNat (c + 1)), q1, q2, q3] [] (mH h m (gsS (gsN f cue p c) cue p c) σ) (fun r h' => r = .inl (some (.int (gsC f cue p 12))) ∧ h' = mH h m (goF f cue p) σ) := ihc
      have hp2 : pl (gsN f cue p c) cue = some p := by rw [← eq.pl hn]; exact hp
      have hI2 := eq.inv hI
      have h02 : p < u (gsN f cue p c 0) := by rw [gsN_lo (by omega)]; exact hps.1
      generalize gsC f cue p c = many at ihc ⊢
      generalize gsN f cue p c = g at ihc hp2 hI2 h02 ⊢
      have hpt := ptO_lt hI2 cue c
      by_cases e : lvN g c (p + 1) = g (402 + 5 * c + 1)
      · have ihd := fun q1 q2 q3 => ihc q1 q2 q3
        rw [if_pos e, show gsS g cue p c = g from if_pos e] at ihd
        refine wa_iload (pc := 11) (y := mX6_goes) dX6_goes_11 rfl ?_
        refine wa_bipush (pc := 13) (y := mX6_goes) (Int32.ofNat 12) dX6_goes_13 rfl ?_
        refine wa_icmp_ge (pc := 15) 144 dX6_goes_15 rfl (fun hb15 => absurd ((iN_le (by omega) (by omega)).mp hb15) (by omega)) (fun hb15 => ?_)
        first | refine wa_aload_n (pc := 18) (y := mX6_goes) dX6_goes_18 rfl ?_ | refine wa_aload_nN (pc := 18) (y := mX6_goes) dX6_goes_18 rfl ?_ | refine wa_aload_nq (pc := 18) (y := mX6_goes) dX6_goes_18 rfl ?_
        refine wa_iload_n (pc := 19) (y := mX6_goes) dX6_goes_19 rfl ?_
        refine wa_iload (pc := 20) (y := mX6_goes) dX6_goes_20 rfl ?_
        refine wa_callV (pc := 22) (s_X6_levelIn (d := d - 1) (by omega) hI2 h02 (by omega)) dX6_goes_22 okX6_levelIn q2754 q2756 qs46 mH_o rfl rfl rfl (Nat.le_of_ble_eq_true rfl) (Nat.le_of_ble_eq_true rfl) (by omega) ?_
        rintro _ _ - - ⟨rfl, rfl⟩
        refine aft_v (pc2 := 25) ?_ rfl
        refine wa_istore (pc := 25) (y := mX6_goes) dX6_goes_25 (Nat.le_of_ble_eq_true rfl) rfl ?_
        simp only [List.set_cons_zero, List.set_cons_succ]
        refine wa_iload (pc := 27) (y := mX6_goes) dX6_goes_27 rfl ?_
        refine wa_callS (pc := 29) (s_X6_fade (d := d - 1)) dX6_goes_29 okX6_fade q2922 q2923 rfl rfl (Nat.le_of_ble_eq_true rfl) (Nat.le_of_ble_eq_true rfl) (by omega) ?_
        rintro _ _ - - ⟨rfl, rfl⟩
        refine aft_v (pc2 := 32) ?_ rfl
        refine wa_istore (pc := 32) (y := mX6_goes) dX6_goes_32 (Nat.le_of_ble_eq_true rfl) rfl ?_
        simp only [List.set_cons_zero, List.set_cons_succ]
        refine wa_iload (pc := 34) (y := mX6_goes) dX6_goes_34 rfl ?_
        first | refine wa_aload_n (pc := 36) (y := mX6_goes) dX6_goes_36 rfl ?_ | refine wa_aload_nN (pc := 36) (y := mX6_goes) dX6_goes_36 rfl ?_ | refine wa_aload_nq (pc := 36) (y := mX6_goes) dX6_goes_36 rfl ?_
        refine wa_getf (pc := 37) (y := mX6_goes) (k := 5) 0 dX6_goes_37 mH_o rfl q2643 (Or.inl rfl) (Nat.le_of_ble_eq_true rfl) (by rfl) ?_
        refine wa_iload (pc := 40) (y := mX6_goes) dX6_goes_40 rfl ?_
        refine wa_iconst (pc := 42) (y := mX6_goes) (Int32.ofNat 1) dX6_goes_42 rfl ?_
        first | with_reducible refine wa_iaddN (pc := 43) (y := mX6_goes) dX6_goes_43 ?_ | refine wa_iadd (pc := 43) (y := mX6_goes) dX6_goes_43 ?_
        refine wa_ialoadN (pc := 44) (y := mX6_goes) dX6_goes_44 mH_1 (by omega) ?_
        refine wa_icmp_eq (pc := 45) 138 dX6_goes_45 rfl (fun hb45 => ?_) (fun hb45 => absurd e hb45)
        first | with_reducible refine wa_iincN (pc := 138) (y := mX6_goes) dX6_goes_138 rfl (Nat.le_of_ble_eq_true rfl) rfl ?_ | refine wa_iinc (pc := 138) (y := mX6_goes) (1) dX6_goes_138 rfl rfl (Nat.le_of_ble_eq_true rfl) rfl ?_
        simp only [List.set_cons_zero, List.set_cons_succ]
        refine wa_goto (pc := 141) (y := mX6_goes) 11 dX6_goes_141 rfl ?_
        exact ihd _ _ _
      · rw [if_neg e, show gsS g cue p c = _ from if_neg e] at ihc
        have ev : ∀ g2, (∀ j, j < 402 → g2 j = g j) → Inv g2 ∧ pl g2 cue = some p := fun g2 h2 => by
          have q : Eqv g g2 := fun j h _ _ _ _ => (h2 j h).symm
          exact ⟨q.inv hI2, by rw [← q.pl hI2.1]; exact hp2⟩
        have i3 := ev (upd (upd (upd g (402 + 5 * c) (nowF g c)) (402 + 5 * c + 1) (lvN g c (p + 1))) (402 + 5 * c + 2) (Int32.ofNat 0)) (fun j hj => by rw [upd_o _ _ (by omega), upd_o _ _ (by omega), upd_o _ _ (by omega)])
        have i4 := ev (upd (upd (upd (upd g (402 + 5 * c) (nowF g c)) (402 + 5 * c + 1) (lvN g c (p + 1))) (402 + 5 * c + 2) (Int32.ofNat 0)) (402 + 5 * c + 3) (g (18 + 12 * p + 4 + 2 * ptO g cue c))) (fun j hj => by rw [upd_o _ _ (by omega), upd_o _ _ (by omega), upd_o _ _ (by omega), upd_o _ _ (by omega)])
        refine wa_iload (pc := 11) (y := mX6_goes) dX6_goes_11 rfl ?_
        refine wa_bipush (pc := 13) (y := mX6_goes) (Int32.ofNat 12) dX6_goes_13 rfl ?_
        refine wa_icmp_ge (pc := 15) 144 dX6_goes_15 rfl (fun hb15 => absurd ((iN_le (by omega) (by omega)).mp hb15) (by omega)) (fun hb15 => ?_)
        first | refine wa_aload_n (pc := 18) (y := mX6_goes) dX6_goes_18 rfl ?_ | refine wa_aload_nN (pc := 18) (y := mX6_goes) dX6_goes_18 rfl ?_ | refine wa_aload_nq (pc := 18) (y := mX6_goes) dX6_goes_18 rfl ?_
        refine wa_iload_n (pc := 19) (y := mX6_goes) dX6_goes_19 rfl ?_
        refine wa_iload (pc := 20) (y := mX6_goes) dX6_goes_20 rfl ?_
        refine wa_callV (pc := 22) (s_X6_levelIn (d := d - 1) (by omega) hI2 h02 (by omega)) dX6_goes_22 okX6_levelIn q2754 q2756 qs46 mH_o rfl rfl rfl (Nat.le_of_ble_eq_true rfl) (Nat.le_of_ble_eq_true rfl) (by omega) ?_
        rintro _ _ - - ⟨rfl, rfl⟩
        refine aft_v (pc2 := 25) ?_ rfl
        refine wa_istore (pc := 25) (y := mX6_goes) dX6_goes_25 (Nat.le_of_ble_eq_true rfl) rfl ?_
        simp only [List.set_cons_zero, List.set_cons_succ]
        refine wa_iload (pc := 27) (y := mX6_goes) dX6_goes_27 rfl ?_
        refine wa_callS (pc := 29) (s_X6_fade (d := d - 1)) dX6_goes_29 okX6_fade q2922 q2923 rfl rfl (Nat.le_of_ble_eq_true rfl) (Nat.le_of_ble_eq_true rfl) (by omega) ?_
        rintro _ _ - - ⟨rfl, rfl⟩
        refine aft_v (pc2 := 32) ?_ rfl
        refine wa_istore (pc := 32) (y := mX6_goes) dX6_goes_32 (Nat.le_of_ble_eq_true rfl) rfl ?_
        simp only [List.set_cons_zero, List.set_cons_succ]
        refine wa_iload (pc := 34) (y := mX6_goes) dX6_goes_34 rfl ?_
        first | refine wa_aload_n (pc := 36) (y := mX6_goes) dX6_goes_36 rfl ?_ | refine wa_aload_nN (pc := 36) (y := mX6_goes) dX6_goes_36 rfl ?_ | refine wa_aload_nq (pc := 36) (y := mX6_goes) dX6_goes_36 rfl ?_
        refine wa_getf (pc := 37) (y := mX6_goes) (k := 5) 0 dX6_goes_37 mH_o rfl q2643 (Or.inl rfl) (Nat.le_of_ble_eq_true rfl) (by rfl) ?_
        refine wa_iload (pc := 40) (y := mX6_goes) dX6_goes_40 rfl ?_
        refine wa_iconst (pc := 42) (y := mX6_goes) (Int32.ofNat 1) dX6_goes_42 rfl ?_
        first | with_reducible refine wa_iaddN (pc := 43) (y := mX6_goes) dX6_goes_43 ?_ | refine wa_iadd (pc := 43) (y := mX6_goes) dX6_goes_43 ?_
        refine wa_ialoadN (pc := 44) (y := mX6_goes) dX6_goes_44 mH_1 (by omega) ?_
        refine wa_icmp_eq (pc := 45) 138 dX6_goes_45 rfl (fun hb45 => absurd hb45 e) (fun hb45 => ?_)
        first | refine wa_aload_n (pc := 48) (y := mX6_goes) dX6_goes_48 rfl ?_ | refine wa_aload_nN (pc := 48) (y := mX6_goes) dX6_goes_48 rfl ?_ | refine wa_aload_nq (pc := 48) (y := mX6_goes) dX6_goes_48 rfl ?_
        refine wa_iload_n (pc := 49) (y := mX6_goes) dX6_goes_49 rfl ?_
        refine wa_iload (pc := 50) (y := mX6_goes) dX6_goes_50 rfl ?_
        refine wa_callV (pc := 52) (s_X6_partOf (d := d - 1) (by omega) hI2) dX6_goes_52 okX6_partOf q2801 q2803 qs53 mH_o rfl rfl rfl (Nat.le_of_ble_eq_true rfl) (Nat.le_of_ble_eq_true rfl) (by omega) ?_
        rintro _ _ - - ⟨rfl, rfl⟩
        refine aft_v (pc2 := 55) ?_ rfl
        refine wa_istore (pc := 55) (y := mX6_goes) dX6_goes_55 (Nat.le_of_ble_eq_true rfl) rfl ?_
        simp only [List.set_cons_zero, List.set_cons_succ]
        first | refine wa_aload_n (pc := 57) (y := mX6_goes) dX6_goes_57 rfl ?_ | refine wa_aload_nN (pc := 57) (y := mX6_goes) dX6_goes_57 rfl ?_ | refine wa_aload_nq (pc := 57) (y := mX6_goes) dX6_goes_57 rfl ?_
        refine wa_getf (pc := 58) (y := mX6_goes) (k := 5) 0 dX6_goes_58 mH_o rfl q2643 (Or.inl rfl) (Nat.le_of_ble_eq_true rfl) (by rfl) ?_
        refine wa_iload (pc := 61) (y := mX6_goes) dX6_goes_61 rfl ?_
        first | refine wa_aload_n (pc := 63) (y := mX6_goes) dX6_goes_63 rfl ?_ | refine wa_aload_nN (pc := 63) (y := mX6_goes) dX6_goes_63 rfl ?_ | refine wa_aload_nq (pc := 63) (y := mX6_goes) dX6_goes_63 rfl ?_
        refine wa_iload (pc := 64) (y := mX6_goes) dX6_goes_64 rfl ?_
        refine wa_callV (pc := 66) (s_X6_nowOf (d := d - 1) (by omega) (by omega)) dX6_goes_66 okX6_nowOf q2925 q2927 qs69 mH_o rfl rfl rfl (Nat.le_of_ble_eq_true rfl) (Nat.le_of_ble_eq_true rfl) (by omega) ?_
        rintro _ _ - - ⟨rfl, rfl⟩
        refine aft_v (pc2 := 69) ?_ rfl
        refine wa_iastoreN (pc := 69) (y := mX6_goes) dX6_goes_69 mH_1 (by omega) ?_
        rw [mW_1]
        first | refine wa_aload_n (pc := 70) (y := mX6_goes) dX6_goes_70 rfl ?_ | refine wa_aload_nN (pc := 70) (y := mX6_goes) dX6_goes_70 rfl ?_ | refine wa_aload_nq (pc := 70) (y := mX6_goes) dX6_goes_70 rfl ?_
        refine wa_getf (pc := 71) (y := mX6_goes) (k := 5) 0 dX6_goes_71 mH_o rfl q2643 (Or.inl rfl) (Nat.le_of_ble_eq_true rfl) (by rfl) ?_
        refine wa_iload (pc := 74) (y := mX6_goes) dX6_goes_74 rfl ?_
        refine wa_iconst (pc := 76) (y := mX6_goes) (Int32.ofNat 1) dX6_goes_76 rfl ?_
        first | with_reducible refine wa_iaddN (pc := 77) (y := mX6_goes) dX6_goes_77 ?_ | refine wa_iadd (pc := 77) (y := mX6_goes) dX6_goes_77 ?_
        refine wa_iload (pc := 78) (y := mX6_goes) dX6_goes_78 rfl ?_
        refine wa_iastoreN (pc := 80) (y := mX6_goes) dX6_goes_80 mH_1 (by omega) ?_
        rw [mW_1]
        first | refine wa_aload_n (pc := 81) (y := mX6_goes) dX6_goes_81 rfl ?_ | refine wa_aload_nN (pc := 81) (y := mX6_goes) dX6_goes_81 rfl ?_ | refine wa_aload_nq (pc := 81) (y := mX6_goes) dX6_goes_81 rfl ?_
        refine wa_getf (pc := 82) (y := mX6_goes) (k := 5) 0 dX6_goes_82 mH_o rfl q2643 (Or.inl rfl) (Nat.le_of_ble_eq_true rfl) (by rfl) ?_
        refine wa_iload (pc := 85) (y := mX6_goes) dX6_goes_85 rfl ?_
        refine wa_iconst (pc := 87) (y := mX6_goes) (Int32.ofNat 2) dX6_goes_87 rfl ?_
        first | with_reducible refine wa_iaddN (pc := 88) (y := mX6_goes) dX6_goes_88 ?_ | refine wa_iadd (pc := 88) (y := mX6_goes) dX6_goes_88 ?_
        refine wa_iconst (pc := 89) (y := mX6_goes) (Int32.ofNat 0) dX6_goes_89 rfl ?_
        refine wa_iastoreN (pc := 90) (y := mX6_goes) dX6_goes_90 mH_1 (by omega) ?_
        rw [mW_1]
        first | refine wa_aload_n (pc := 91) (y := mX6_goes) dX6_goes_91 rfl ?_ | refine wa_aload_nN (pc := 91) (y := mX6_goes) dX6_goes_91 rfl ?_ | refine wa_aload_nq (pc := 91) (y := mX6_goes) dX6_goes_91 rfl ?_
        refine wa_getf (pc := 92) (y := mX6_goes) (k := 5) 0 dX6_goes_92 mH_o rfl q2643 (Or.inl rfl) (Nat.le_of_ble_eq_true rfl) (by rfl) ?_
        refine wa_iload (pc := 95) (y := mX6_goes) dX6_goes_95 rfl ?_
        refine wa_iconst (pc := 97) (y := mX6_goes) (Int32.ofNat 3) dX6_goes_97 rfl ?_
        first | with_reducible refine wa_iaddN (pc := 98) (y := mX6_goes) dX6_goes_98 ?_ | refine wa_iadd (pc := 98) (y := mX6_goes) dX6_goes_98 ?_
        first | refine wa_aload_n (pc := 99) (y := mX6_goes) dX6_goes_99 rfl ?_ | refine wa_aload_nN (pc := 99) (y := mX6_goes) dX6_goes_99 rfl ?_ | refine wa_aload_nq (pc := 99) (y := mX6_goes) dX6_goes_99 rfl ?_
        refine wa_getf (pc := 100) (y := mX6_goes) (k := 5) 0 dX6_goes_100 mH_o rfl q2643 (Or.inl rfl) (Nat.le_of_ble_eq_true rfl) (by rfl) ?_
        first | refine wa_aload_n (pc := 103) (y := mX6_goes) dX6_goes_103 rfl ?_ | refine wa_aload_nN (pc := 103) (y := mX6_goes) dX6_goes_103 rfl ?_ | refine wa_aload_nq (pc := 103) (y := mX6_goes) dX6_goes_103 rfl ?_
        refine wa_iload_n (pc := 104) (y := mX6_goes) dX6_goes_104 rfl ?_
        refine wa_iload (pc := 105) (y := mX6_goes) dX6_goes_105 rfl ?_
        refine wa_iconst (pc := 107) (y := mX6_goes) (Int32.ofNat 1) dX6_goes_107 rfl ?_
        refine wa_callV (pc := 108) (s_X6_partAt (b := true) (d := d - 1) (by omega) i3.1 i3.2) dX6_goes_108 okX6_partAt q2777 q2779 qs49 mH_o rfl rfl rfl (Nat.le_of_ble_eq_true rfl) (Nat.le_of_ble_eq_true rfl) (by omega) ?_
        rintro _ _ - - ⟨rfl, rfl⟩
        refine aft_v (pc2 := 111) ?_ rfl
        rw [if_pos rfl]
        refine wa_ialoadN (pc := 111) (y := mX6_goes) dX6_goes_111 mH_1 (by omega) ?_
        rw [upd_o _ _ (by omega), upd_o _ _ (by omega), upd_o _ _ (by omega)]
        refine wa_iastoreN (pc := 112) (y := mX6_goes) dX6_goes_112 mH_1 (by omega) ?_
        rw [mW_1]
        first | refine wa_aload_n (pc := 113) (y := mX6_goes) dX6_goes_113 rfl ?_ | refine wa_aload_nN (pc := 113) (y := mX6_goes) dX6_goes_113 rfl ?_ | refine wa_aload_nq (pc := 113) (y := mX6_goes) dX6_goes_113 rfl ?_
        refine wa_getf (pc := 114) (y := mX6_goes) (k := 5) 0 dX6_goes_114 mH_o rfl q2643 (Or.inl rfl) (Nat.le_of_ble_eq_true rfl) (by rfl) ?_
        refine wa_iload (pc := 117) (y := mX6_goes) dX6_goes_117 rfl ?_
        refine wa_iconst (pc := 119) (y := mX6_goes) (Int32.ofNat 4) dX6_goes_119 rfl ?_
        first | with_reducible refine wa_iaddN (pc := 120) (y := mX6_goes) dX6_goes_120 ?_ | refine wa_iadd (pc := 120) (y := mX6_goes) dX6_goes_120 ?_
        first | refine wa_aload_n (pc := 121) (y := mX6_goes) dX6_goes_121 rfl ?_ | refine wa_aload_nN (pc := 121) (y := mX6_goes) dX6_goes_121 rfl ?_ | refine wa_aload_nq (pc := 121) (y := mX6_goes) dX6_goes_121 rfl ?_
        refine wa_getf (pc := 122) (y := mX6_goes) (k := 5) 0 dX6_goes_122 mH_o rfl q2643 (Or.inl rfl) (Nat.le_of_ble_eq_true rfl) (by rfl) ?_
        first | refine wa_aload_n (pc := 125) (y := mX6_goes) dX6_goes_125 rfl ?_ | refine wa_aload_nN (pc := 125) (y := mX6_goes) dX6_goes_125 rfl ?_ | refine wa_aload_nq (pc := 125) (y := mX6_goes) dX6_goes_125 rfl ?_
        refine wa_iload_n (pc := 126) (y := mX6_goes) dX6_goes_126 rfl ?_
        refine wa_iload (pc := 127) (y := mX6_goes) dX6_goes_127 rfl ?_
        refine wa_iconst (pc := 129) (y := mX6_goes) (Int32.ofNat 0) dX6_goes_129 rfl ?_
        refine wa_callV (pc := 130) (s_X6_partAt (b := false) (d := d - 1) (by omega) i4.1 i4.2) dX6_goes_130 okX6_partAt q2777 q2779 qs49 mH_o rfl rfl rfl (Nat.le_of_ble_eq_true rfl) (Nat.le_of_ble_eq_true rfl) (by omega) ?_
        rintro _ _ - - ⟨rfl, rfl⟩
        refine aft_v (pc2 := 133) ?_ rfl
        rw [if_neg (by decide)]
        refine wa_ialoadN (pc := 133) (y := mX6_goes) dX6_goes_133 mH_1 (by omega) ?_
        rw [upd_o _ _ (by omega), upd_o _ _ (by omega), upd_o _ _ (by omega), upd_o _ _ (by omega)]
        refine wa_iastoreN (pc := 134) (y := mX6_goes) dX6_goes_134 mH_1 (by omega) ?_
        rw [mW_1]
        first | with_reducible refine wa_iincN (pc := 135) (y := mX6_goes) dX6_goes_135 rfl (Nat.le_of_ble_eq_true rfl) rfl ?_ | refine wa_iinc (pc := 135) (y := mX6_goes) (1) dX6_goes_135 rfl rfl (Nat.le_of_ble_eq_true rfl) rfl ?_
        simp only [List.set_cons_zero, List.set_cons_succ]
        first | with_reducible refine wa_iincN (pc := 138) (y := mX6_goes) dX6_goes_138 rfl (Nat.le_of_ble_eq_true rfl) rfl ?_ | refine wa_iinc (pc := 138) (y := mX6_goes) (1) dX6_goes_138 rfl rfl (Nat.le_of_ble_eq_true rfl) rfl ?_
        simp only [List.set_cons_zero, List.set_cons_succ]
        refine wa_goto (pc := 141) (y := mX6_goes) 11 dX6_goes_141 rfl ?_
        exact ihc _ _ _
  refine wa_iconst (pc := 0) (y := mX6_goes) (Int32.ofNat 0) dX6_goes_0 rfl ?_
  refine wa_istore_n (pc := 1) (y := mX6_goes) dX6_goes_1 (Nat.le_of_ble_eq_true rfl) rfl ?_
  change WA _ _ _ _ (List.set _ 2 _) _ _ _
  simp only [List.set_cons_zero, List.set_cons_succ]
  first | refine wa_aload_n (pc := 2) (y := mX6_goes) dX6_goes_2 rfl ?_ | refine wa_aload_nN (pc := 2) (y := mX6_goes) dX6_goes_2 rfl ?_ | refine wa_aload_nq (pc := 2) (y := mX6_goes) dX6_goes_2 rfl ?_
  refine wa_iload_n (pc := 3) (y := mX6_goes) dX6_goes_3 rfl ?_
  refine wa_callV (pc := 4) (s_X6_placeOf (d := d - 1) (by omega) hI) dX6_goes_4 okX6_placeOf q2723 q2725 qs42 mH_o rfl rfl rfl (Nat.le_of_ble_eq_true rfl) (Nat.le_of_ble_eq_true rfl) (by omega) ?_
  rintro _ _ - - ⟨rfl, rfl⟩
  refine aft_v (pc2 := 7) ?_ rfl
  rw [hp, oI_some]
  refine wa_istore_n (pc := 7) (y := mX6_goes) dX6_goes_7 (Nat.le_of_ble_eq_true rfl) rfl ?_
  change WA _ _ _ _ (List.set _ 3 _) _ _ _
  simp only [List.set_cons_zero, List.set_cons_succ]
  refine wa_iconst (pc := 8) (y := mX6_goes) (Int32.ofNat 0) dX6_goes_8 rfl ?_
  refine wa_istore (pc := 9) (y := mX6_goes) dX6_goes_9 (Nat.le_of_ble_eq_true rfl) rfl ?_
  simp only [List.set_cons_zero, List.set_cons_succ]
  exact key 12 0 _ _ _ (by omega)
theorem s_X6_follows (hd : 2 ≤ d) (hI : Inv f) : MA G d mX6_follows [.ref m] (mH h m f σ) (fun r h' => r = .inl (some (.int (bI (flB f)))) ∧ h' = mH h m f σ) := by
  have hn := hI.1
  show WA _ _ _ 0 [.ref m, .retAddr 0] [] _ _
  by_cases e0 : f 2 = 0
  · rw [show flB f = false by unfold flB; rw [decide_eq_true e0]; rfl]
    first | refine wa_aload_n (pc := 0) (y := mX6_follows) dX6_follows_0 rfl ?_ | refine wa_aload_nN (pc := 0) (y := mX6_follows) dX6_follows_0 rfl ?_ | refine wa_aload_nq (pc := 0) (y := mX6_follows) dX6_follows_0 rfl ?_
    refine wa_getf (pc := 1) (y := mX6_follows) (k := 5) 0 dX6_follows_1 mH_o rfl q2643 (Or.inl rfl) (Nat.le_of_ble_eq_true rfl) (by rfl) ?_
    refine wa_iconst (pc := 4) (y := mX6_follows) (Int32.ofNat 2) dX6_follows_4 rfl ?_
    refine wa_ialoadN (pc := 5) (y := mX6_follows) dX6_follows_5 mH_1 (by omega) ?_
    refine wa_if_ne (pc := 6) 13 dX6_follows_6 rfl (fun hb6 => absurd e0 hb6) (fun hb6 => ?_)
    refine wa_iconst (pc := 9) (y := mX6_follows) (-1) dX6_follows_9 rfl ?_
    refine wa_goto (pc := 10) (y := mX6_follows) 23 dX6_follows_10 rfl ?_
    refine wa_istore_n (pc := 23) (y := mX6_follows) dX6_follows_23 (Nat.le_of_ble_eq_true rfl) rfl ?_
    change WA _ _ _ _ (List.set _ 1 _) _ _ _
    simp only [List.set_cons_zero, List.set_cons_succ]
    refine wa_iload_n (pc := 24) (y := mX6_follows) dX6_follows_24 rfl ?_
    refine wa_if_lt (pc := 25) 59 dX6_follows_25 rfl (fun hb25 => ?_) (fun hb25 => absurd (by decide) hb25)
    refine wa_iconst (pc := 59) (y := mX6_follows) (Int32.ofNat 0) dX6_follows_59 rfl ?_
    exact wa_ireturn (pc := 60) (y := mX6_follows) .boolean dX6_follows_60 rfl rfl ⟨rfl, rfl⟩
  · cases hp : pl f (f 2) with
    | none =>
      rw [show flB f = false by unfold flB; rw [hp, Bool.and_false]]
      first | refine wa_aload_n (pc := 0) (y := mX6_follows) dX6_follows_0 rfl ?_ | refine wa_aload_nN (pc := 0) (y := mX6_follows) dX6_follows_0 rfl ?_ | refine wa_aload_nq (pc := 0) (y := mX6_follows) dX6_follows_0 rfl ?_
      refine wa_getf (pc := 1) (y := mX6_follows) (k := 5) 0 dX6_follows_1 mH_o rfl q2643 (Or.inl rfl) (Nat.le_of_ble_eq_true rfl) (by rfl) ?_
      refine wa_iconst (pc := 4) (y := mX6_follows) (Int32.ofNat 2) dX6_follows_4 rfl ?_
      refine wa_ialoadN (pc := 5) (y := mX6_follows) dX6_follows_5 mH_1 (by omega) ?_
      refine wa_if_ne (pc := 6) 13 dX6_follows_6 rfl (fun hb6 => ?_) (fun hb6 => absurd hb6 e0)
      first | refine wa_aload_n (pc := 13) (y := mX6_follows) dX6_follows_13 rfl ?_ | refine wa_aload_nN (pc := 13) (y := mX6_follows) dX6_follows_13 rfl ?_ | refine wa_aload_nq (pc := 13) (y := mX6_follows) dX6_follows_13 rfl ?_
      first | refine wa_aload_n (pc := 14) (y := mX6_follows) dX6_follows_14 rfl ?_ | refine wa_aload_nN (pc := 14) (y := mX6_follows) dX6_follows_14 rfl ?_ | refine wa_aload_nq (pc := 14) (y := mX6_follows) dX6_follows_14 rfl ?_
      refine wa_getf (pc := 15) (y := mX6_follows) (k := 5) 0 dX6_follows_15 mH_o rfl q2643 (Or.inl rfl) (Nat.le_of_ble_eq_true rfl) (by rfl) ?_
      refine wa_iconst (pc := 18) (y := mX6_follows) (Int32.ofNat 2) dX6_follows_18 rfl ?_
      refine wa_ialoadN (pc := 19) (y := mX6_follows) dX6_follows_19 mH_1 (by omega) ?_
      refine wa_callV (pc := 20) (s_X6_placeOf (d := d - 1) (by omega) hI) dX6_follows_20 okX6_placeOf q2723 q2725 qs42 mH_o rfl rfl rfl (Nat.le_of_ble_eq_true rfl) (Nat.le_of_ble_eq_true rfl) (by omega) ?_
      rintro _ _ - - ⟨rfl, rfl⟩
      refine aft_v (pc2 := 23) ?_ rfl
      rw [hp, oI_none]
      refine wa_istore_n (pc := 23) (y := mX6_follows) dX6_follows_23 (Nat.le_of_ble_eq_true rfl) rfl ?_
      change WA _ _ _ _ (List.set _ 1 _) _ _ _
      simp only [List.set_cons_zero, List.set_cons_succ]
      refine wa_iload_n (pc := 24) (y := mX6_follows) dX6_follows_24 rfl ?_
      refine wa_if_lt (pc := 25) 59 dX6_follows_25 rfl (fun hb25 => ?_) (fun hb25 => absurd (by decide) hb25)
      refine wa_iconst (pc := 59) (y := mX6_follows) (Int32.ofNat 0) dX6_follows_59 rfl ?_
      exact wa_ireturn (pc := 60) (y := mX6_follows) .boolean dX6_follows_60 rfl rfl ⟨rfl, rfl⟩
    | some p =>
      have hps := (pl_some hp).1
      have ef : flB f = (decide (0 < f (18 + 12 * p + 1)) && decide (0 < nx f (f 2))) := by unfold flB; rw [hp, decide_eq_false e0]; rfl
      rw [ef]
      first | refine wa_aload_n (pc := 0) (y := mX6_follows) dX6_follows_0 rfl ?_ | refine wa_aload_nN (pc := 0) (y := mX6_follows) dX6_follows_0 rfl ?_ | refine wa_aload_nq (pc := 0) (y := mX6_follows) dX6_follows_0 rfl ?_
      refine wa_getf (pc := 1) (y := mX6_follows) (k := 5) 0 dX6_follows_1 mH_o rfl q2643 (Or.inl rfl) (Nat.le_of_ble_eq_true rfl) (by rfl) ?_
      refine wa_iconst (pc := 4) (y := mX6_follows) (Int32.ofNat 2) dX6_follows_4 rfl ?_
      refine wa_ialoadN (pc := 5) (y := mX6_follows) dX6_follows_5 mH_1 (by omega) ?_
      refine wa_if_ne (pc := 6) 13 dX6_follows_6 rfl (fun hb6 => ?_) (fun hb6 => absurd hb6 e0)
      first | refine wa_aload_n (pc := 13) (y := mX6_follows) dX6_follows_13 rfl ?_ | refine wa_aload_nN (pc := 13) (y := mX6_follows) dX6_follows_13 rfl ?_ | refine wa_aload_nq (pc := 13) (y := mX6_follows) dX6_follows_13 rfl ?_
      first | refine wa_aload_n (pc := 14) (y := mX6_follows) dX6_follows_14 rfl ?_ | refine wa_aload_nN (pc := 14) (y := mX6_follows) dX6_follows_14 rfl ?_ | refine wa_aload_nq (pc := 14) (y := mX6_follows) dX6_follows_14 rfl ?_
      refine wa_getf (pc := 15) (y := mX6_follows) (k := 5) 0 dX6_follows_15 mH_o rfl q2643 (Or.inl rfl) (Nat.le_of_ble_eq_true rfl) (by rfl) ?_
      refine wa_iconst (pc := 18) (y := mX6_follows) (Int32.ofNat 2) dX6_follows_18 rfl ?_
      refine wa_ialoadN (pc := 19) (y := mX6_follows) dX6_follows_19 mH_1 (by omega) ?_
      refine wa_callV (pc := 20) (s_X6_placeOf (d := d - 1) (by omega) hI) dX6_follows_20 okX6_placeOf q2723 q2725 qs42 mH_o rfl rfl rfl (Nat.le_of_ble_eq_true rfl) (Nat.le_of_ble_eq_true rfl) (by omega) ?_
      rintro _ _ - - ⟨rfl, rfl⟩
      refine aft_v (pc2 := 23) ?_ rfl
      rw [hp, oI_some]
      refine wa_istore_n (pc := 23) (y := mX6_follows) dX6_follows_23 (Nat.le_of_ble_eq_true rfl) rfl ?_
      change WA _ _ _ _ (List.set _ 1 _) _ _ _
      simp only [List.set_cons_zero, List.set_cons_succ]
      refine wa_iload_n (pc := 24) (y := mX6_follows) dX6_follows_24 rfl ?_
      refine wa_if_lt (pc := 25) 59 dX6_follows_25 rfl (fun hb25 => absurd ((iN_lt (b := 0) (by omega) (by omega)).mp hb25) (by omega)) (fun hb25 => ?_)
      first | refine wa_aload_n (pc := 28) (y := mX6_follows) dX6_follows_28 rfl ?_ | refine wa_aload_nN (pc := 28) (y := mX6_follows) dX6_follows_28 rfl ?_ | refine wa_aload_nq (pc := 28) (y := mX6_follows) dX6_follows_28 rfl ?_
      refine wa_getf (pc := 29) (y := mX6_follows) (k := 5) 0 dX6_follows_29 mH_o rfl q2643 (Or.inl rfl) (Nat.le_of_ble_eq_true rfl) (by rfl) ?_
      refine wa_iload_n (pc := 32) (y := mX6_follows) dX6_follows_32 rfl ?_
      refine wa_callS (pc := 33) (s_X6_at (d := d - 1)) dX6_follows_33 okX6_at q2727 q2728 rfl rfl (Nat.le_of_ble_eq_true rfl) (Nat.le_of_ble_eq_true rfl) (by omega) ?_
      rintro _ _ - - ⟨rfl, rfl⟩
      refine aft_v (pc2 := 36) ?_ rfl
      refine wa_iconst (pc := 36) (y := mX6_follows) (Int32.ofNat 1) dX6_follows_36 rfl ?_
      first | with_reducible refine wa_iaddN (pc := 37) (y := mX6_follows) dX6_follows_37 ?_ | refine wa_iadd (pc := 37) (y := mX6_follows) dX6_follows_37 ?_
      refine wa_ialoadN (pc := 38) (y := mX6_follows) dX6_follows_38 mH_1 (by omega) ?_
      refine wa_if_le (pc := 39) 59 dX6_follows_39 rfl (fun hb39 => ?_) (fun hb39 => ?_)
      · rw [decide_eq_false (Int32.not_lt.mpr hb39), Bool.false_and]
        refine wa_iconst (pc := 59) (y := mX6_follows) (Int32.ofNat 0) dX6_follows_59 rfl ?_
        exact wa_ireturn (pc := 60) (y := mX6_follows) .boolean dX6_follows_60 rfl rfl ⟨rfl, rfl⟩
      · rw [decide_eq_true (Int32.not_le.mp hb39), Bool.true_and]
        first | refine wa_aload_n (pc := 42) (y := mX6_follows) dX6_follows_42 rfl ?_ | refine wa_aload_nN (pc := 42) (y := mX6_follows) dX6_follows_42 rfl ?_ | refine wa_aload_nq (pc := 42) (y := mX6_follows) dX6_follows_42 rfl ?_
        first | refine wa_aload_n (pc := 43) (y := mX6_follows) dX6_follows_43 rfl ?_ | refine wa_aload_nN (pc := 43) (y := mX6_follows) dX6_follows_43 rfl ?_ | refine wa_aload_nq (pc := 43) (y := mX6_follows) dX6_follows_43 rfl ?_
        refine wa_getf (pc := 44) (y := mX6_follows) (k := 5) 0 dX6_follows_44 mH_o rfl q2643 (Or.inl rfl) (Nat.le_of_ble_eq_true rfl) (by rfl) ?_
        refine wa_iconst (pc := 47) (y := mX6_follows) (Int32.ofNat 2) dX6_follows_47 rfl ?_
        refine wa_ialoadN (pc := 48) (y := mX6_follows) dX6_follows_48 mH_1 (by omega) ?_
        refine wa_callV (pc := 49) (s_X6_nextCue (d := d - 1) (by omega) hI) dX6_follows_49 okX6_nextCue q2914 q2916 qs67 mH_o rfl rfl rfl (Nat.le_of_ble_eq_true rfl) (Nat.le_of_ble_eq_true rfl) (by omega) ?_
        rintro _ _ - - ⟨rfl, rfl⟩
        refine aft_v (pc2 := 52) ?_ rfl
        refine wa_if_le (pc := 52) 59 dX6_follows_52 rfl (fun hb52 => ?_) (fun hb52 => ?_)
        · rw [decide_eq_false (Int32.not_lt.mpr hb52)]
          refine wa_iconst (pc := 59) (y := mX6_follows) (Int32.ofNat 0) dX6_follows_59 rfl ?_
          exact wa_ireturn (pc := 60) (y := mX6_follows) .boolean dX6_follows_60 rfl rfl ⟨rfl, rfl⟩
        · rw [decide_eq_true (Int32.not_le.mp hb52)]
          refine wa_iconst (pc := 55) (y := mX6_follows) (Int32.ofNat 1) dX6_follows_55 rfl ?_
          refine wa_goto (pc := 56) (y := mX6_follows) 60 dX6_follows_56 rfl ?_
          exact wa_ireturn (pc := 60) (y := mX6_follows) .boolean dX6_follows_60 rfl rfl ⟨rfl, rfl⟩
theorem s_X6_doGo {b : Bool} (hd : 4 ≤ d) (hI : Inv f) : MA G d mX6_doGo [.ref m, .int (bI b)] (mH h m f σ) (fun r h' => r = .inl (some (.int (Int32.ofNat (dGo f σ b).1))) ∧ h' = mH h m (dGo f σ b).2.1 (dGo f σ b).2.2) := by
  show WA _ _ _ 0 [.ref m, .int _, .retAddr 0] [] _ _
  cases b with
  | true =>
    by_cases e : ahN f (f 2) (u (f 0)) = 0
    · rw [show dGo f σ true = (5, σ.1 1, mV σ 6 (Int32.ofNat 5)) from if_pos e]
      refine wa_iload_n (pc := 0) (y := mX6_doGo) dX6_doGo_0 rfl ?_
      refine wa_if_eq (pc := 1) 17 dX6_doGo_1 rfl (fun hb1 => absurd hb1 (by decide)) (fun hb1 => ?_)
      first | refine wa_aload_n (pc := 4) (y := mX6_doGo) dX6_doGo_4 rfl ?_ | refine wa_aload_nN (pc := 4) (y := mX6_doGo) dX6_doGo_4 rfl ?_ | refine wa_aload_nq (pc := 4) (y := mX6_doGo) dX6_doGo_4 rfl ?_
      first | refine wa_aload_n (pc := 5) (y := mX6_doGo) dX6_doGo_5 rfl ?_ | refine wa_aload_nN (pc := 5) (y := mX6_doGo) dX6_doGo_5 rfl ?_ | refine wa_aload_nq (pc := 5) (y := mX6_doGo) dX6_doGo_5 rfl ?_
      refine wa_getf (pc := 6) (y := mX6_doGo) (k := 5) 0 dX6_doGo_6 mH_o rfl q2643 (Or.inl rfl) (Nat.le_of_ble_eq_true rfl) (by rfl) ?_
      refine wa_iconst (pc := 9) (y := mX6_doGo) (Int32.ofNat 2) dX6_doGo_9 rfl ?_
      refine wa_ialoadN (pc := 10) (y := mX6_doGo) dX6_doGo_10 mH_1 (by omega) ?_
      refine wa_callV (pc := 11) (s_X6_cueAhead (d := d - 1) (by omega) hI) dX6_doGo_11 okX6_cueAhead q2910 q2912 qs66 mH_o rfl rfl rfl (Nat.le_of_ble_eq_true rfl) (Nat.le_of_ble_eq_true rfl) (by omega) ?_
      rintro _ _ - - ⟨rfl, rfl⟩
      refine aft_v (pc2 := 14) ?_ rfl
      refine wa_goto (pc := 14) (y := mX6_doGo) 27 dX6_doGo_14 rfl ?_
      refine wa_istore_n (pc := 27) (y := mX6_doGo) dX6_doGo_27 (Nat.le_of_ble_eq_true rfl) rfl ?_
      change WA _ _ _ _ (List.set _ 2 _) _ _ _
      simp only [List.set_cons_zero, List.set_cons_succ]
      refine wa_iload_n (pc := 28) (y := mX6_doGo) dX6_doGo_28 rfl ?_
      refine wa_if_ne (pc := 29) 46 dX6_doGo_29 rfl (fun hb29 => absurd e hb29) (fun hb29 => ?_)
      first | refine wa_aload_n (pc := 32) (y := mX6_doGo) dX6_doGo_32 rfl ?_ | refine wa_aload_nN (pc := 32) (y := mX6_doGo) dX6_doGo_32 rfl ?_ | refine wa_aload_nq (pc := 32) (y := mX6_doGo) dX6_doGo_32 rfl ?_
      refine wa_iload_n (pc := 33) (y := mX6_doGo) dX6_doGo_33 rfl ?_
      refine wa_if_eq (pc := 34) 41 dX6_doGo_34 rfl (fun hb34 => absurd hb34 (by decide)) (fun hb34 => ?_)
      refine wa_iconst (pc := 37) (y := mX6_doGo) (Int32.ofNat 5) dX6_doGo_37 rfl ?_
      refine wa_goto (pc := 38) (y := mX6_doGo) 42 dX6_doGo_38 rfl ?_
      refine wa_callV (pc := 42) (s_X6_refuse (d := d - 1) (by omega)) dX6_doGo_42 okX6_refuse q2837 q2839 qs59 mH_o rfl rfl rfl (Nat.le_of_ble_eq_true rfl) (Nat.le_of_ble_eq_true rfl) (by omega) ?_
      rintro _ _ - - ⟨rfl, rfl⟩
      refine aft_v (pc2 := 45) ?_ rfl
      exact wa_ireturn (pc := 45) (y := mX6_doGo) .int dX6_doGo_45 rfl rfl ⟨rfl, rfl⟩
    · obtain ⟨p, hp⟩ := ah_pl e
      rw [show dGo f σ true = (0, goX f (ahN f (f 2) (u (f 0))), σ) from if_neg e, show goX f (ahN f (f 2) (u (f 0))) = goF f (ahN f (f 2) (u (f 0))) p by unfold goX; rw [hp]]
      refine wa_iload_n (pc := 0) (y := mX6_doGo) dX6_doGo_0 rfl ?_
      refine wa_if_eq (pc := 1) 17 dX6_doGo_1 rfl (fun hb1 => absurd hb1 (by decide)) (fun hb1 => ?_)
      first | refine wa_aload_n (pc := 4) (y := mX6_doGo) dX6_doGo_4 rfl ?_ | refine wa_aload_nN (pc := 4) (y := mX6_doGo) dX6_doGo_4 rfl ?_ | refine wa_aload_nq (pc := 4) (y := mX6_doGo) dX6_doGo_4 rfl ?_
      first | refine wa_aload_n (pc := 5) (y := mX6_doGo) dX6_doGo_5 rfl ?_ | refine wa_aload_nN (pc := 5) (y := mX6_doGo) dX6_doGo_5 rfl ?_ | refine wa_aload_nq (pc := 5) (y := mX6_doGo) dX6_doGo_5 rfl ?_
      refine wa_getf (pc := 6) (y := mX6_doGo) (k := 5) 0 dX6_doGo_6 mH_o rfl q2643 (Or.inl rfl) (Nat.le_of_ble_eq_true rfl) (by rfl) ?_
      refine wa_iconst (pc := 9) (y := mX6_doGo) (Int32.ofNat 2) dX6_doGo_9 rfl ?_
      refine wa_ialoadN (pc := 10) (y := mX6_doGo) dX6_doGo_10 mH_1 (by omega) ?_
      refine wa_callV (pc := 11) (s_X6_cueAhead (d := d - 1) (by omega) hI) dX6_doGo_11 okX6_cueAhead q2910 q2912 qs66 mH_o rfl rfl rfl (Nat.le_of_ble_eq_true rfl) (Nat.le_of_ble_eq_true rfl) (by omega) ?_
      rintro _ _ - - ⟨rfl, rfl⟩
      refine aft_v (pc2 := 14) ?_ rfl
      refine wa_goto (pc := 14) (y := mX6_doGo) 27 dX6_doGo_14 rfl ?_
      refine wa_istore_n (pc := 27) (y := mX6_doGo) dX6_doGo_27 (Nat.le_of_ble_eq_true rfl) rfl ?_
      change WA _ _ _ _ (List.set _ 2 _) _ _ _
      simp only [List.set_cons_zero, List.set_cons_succ]
      refine wa_iload_n (pc := 28) (y := mX6_doGo) dX6_doGo_28 rfl ?_
      refine wa_if_ne (pc := 29) 46 dX6_doGo_29 rfl (fun hb29 => ?_) (fun hb29 => absurd hb29 e)
      first | refine wa_aload_n (pc := 46) (y := mX6_doGo) dX6_doGo_46 rfl ?_ | refine wa_aload_nN (pc := 46) (y := mX6_doGo) dX6_doGo_46 rfl ?_ | refine wa_aload_nq (pc := 46) (y := mX6_doGo) dX6_doGo_46 rfl ?_
      refine wa_iload_n (pc := 47) (y := mX6_doGo) dX6_doGo_47 rfl ?_
      refine wa_callV (pc := 48) (s_X6_goes (d := d - 1) (by omega) hI hp) dX6_doGo_48 okX6_goes q2918 q2920 qs68 mH_o rfl rfl rfl (Nat.le_of_ble_eq_true rfl) (Nat.le_of_ble_eq_true rfl) (by omega) ?_
      rintro _ _ - - ⟨rfl, rfl⟩
      refine aft_v (pc2 := 51) ?_ rfl
      refine wa_pop (pc := 51) (y := mX6_doGo) dX6_doGo_51 rfl ?_
      refine wa_iconst (pc := 52) (y := mX6_doGo) (Int32.ofNat 0) dX6_doGo_52 rfl ?_
      exact wa_ireturn (pc := 53) (y := mX6_doGo) .int dX6_doGo_53 rfl rfl ⟨rfl, rfl⟩
  | false =>
    by_cases e : nx f (f 2) = 0
    · rw [show dGo f σ false = (4, σ.1 1, mV σ 6 (Int32.ofNat 4)) from if_pos e]
      refine wa_iload_n (pc := 0) (y := mX6_doGo) dX6_doGo_0 rfl ?_
      refine wa_if_eq (pc := 1) 17 dX6_doGo_1 rfl (fun hb1 => ?_) (fun hb1 => absurd rfl hb1)
      first | refine wa_aload_n (pc := 17) (y := mX6_doGo) dX6_doGo_17 rfl ?_ | refine wa_aload_nN (pc := 17) (y := mX6_doGo) dX6_doGo_17 rfl ?_ | refine wa_aload_nq (pc := 17) (y := mX6_doGo) dX6_doGo_17 rfl ?_
      first | refine wa_aload_n (pc := 18) (y := mX6_doGo) dX6_doGo_18 rfl ?_ | refine wa_aload_nN (pc := 18) (y := mX6_doGo) dX6_doGo_18 rfl ?_ | refine wa_aload_nq (pc := 18) (y := mX6_doGo) dX6_doGo_18 rfl ?_
      refine wa_getf (pc := 19) (y := mX6_doGo) (k := 5) 0 dX6_doGo_19 mH_o rfl q2643 (Or.inl rfl) (Nat.le_of_ble_eq_true rfl) (by rfl) ?_
      refine wa_iconst (pc := 22) (y := mX6_doGo) (Int32.ofNat 2) dX6_doGo_22 rfl ?_
      refine wa_ialoadN (pc := 23) (y := mX6_doGo) dX6_doGo_23 mH_1 (by omega) ?_
      refine wa_callV (pc := 24) (s_X6_nextCue (d := d - 1) (by omega) hI) dX6_doGo_24 okX6_nextCue q2914 q2916 qs67 mH_o rfl rfl rfl (Nat.le_of_ble_eq_true rfl) (Nat.le_of_ble_eq_true rfl) (by omega) ?_
      rintro _ _ - - ⟨rfl, rfl⟩
      refine aft_v (pc2 := 27) ?_ rfl
      refine wa_istore_n (pc := 27) (y := mX6_doGo) dX6_doGo_27 (Nat.le_of_ble_eq_true rfl) rfl ?_
      change WA _ _ _ _ (List.set _ 2 _) _ _ _
      simp only [List.set_cons_zero, List.set_cons_succ]
      refine wa_iload_n (pc := 28) (y := mX6_doGo) dX6_doGo_28 rfl ?_
      refine wa_if_ne (pc := 29) 46 dX6_doGo_29 rfl (fun hb29 => absurd e hb29) (fun hb29 => ?_)
      first | refine wa_aload_n (pc := 32) (y := mX6_doGo) dX6_doGo_32 rfl ?_ | refine wa_aload_nN (pc := 32) (y := mX6_doGo) dX6_doGo_32 rfl ?_ | refine wa_aload_nq (pc := 32) (y := mX6_doGo) dX6_doGo_32 rfl ?_
      refine wa_iload_n (pc := 33) (y := mX6_doGo) dX6_doGo_33 rfl ?_
      refine wa_if_eq (pc := 34) 41 dX6_doGo_34 rfl (fun hb34 => ?_) (fun hb34 => absurd rfl hb34)
      refine wa_iconst (pc := 41) (y := mX6_doGo) (Int32.ofNat 4) dX6_doGo_41 rfl ?_
      refine wa_callV (pc := 42) (s_X6_refuse (d := d - 1) (by omega)) dX6_doGo_42 okX6_refuse q2837 q2839 qs59 mH_o rfl rfl rfl (Nat.le_of_ble_eq_true rfl) (Nat.le_of_ble_eq_true rfl) (by omega) ?_
      rintro _ _ - - ⟨rfl, rfl⟩
      refine aft_v (pc2 := 45) ?_ rfl
      exact wa_ireturn (pc := 45) (y := mX6_doGo) .int dX6_doGo_45 rfl rfl ⟨rfl, rfl⟩
    · obtain ⟨p, hp⟩ := nx_pl e
      rw [show dGo f σ false = (0, goX f (nx f (f 2)), σ) from if_neg e, show goX f (nx f (f 2)) = goF f (nx f (f 2)) p by unfold goX; rw [hp]]
      refine wa_iload_n (pc := 0) (y := mX6_doGo) dX6_doGo_0 rfl ?_
      refine wa_if_eq (pc := 1) 17 dX6_doGo_1 rfl (fun hb1 => ?_) (fun hb1 => absurd rfl hb1)
      first | refine wa_aload_n (pc := 17) (y := mX6_doGo) dX6_doGo_17 rfl ?_ | refine wa_aload_nN (pc := 17) (y := mX6_doGo) dX6_doGo_17 rfl ?_ | refine wa_aload_nq (pc := 17) (y := mX6_doGo) dX6_doGo_17 rfl ?_
      first | refine wa_aload_n (pc := 18) (y := mX6_doGo) dX6_doGo_18 rfl ?_ | refine wa_aload_nN (pc := 18) (y := mX6_doGo) dX6_doGo_18 rfl ?_ | refine wa_aload_nq (pc := 18) (y := mX6_doGo) dX6_doGo_18 rfl ?_
      refine wa_getf (pc := 19) (y := mX6_doGo) (k := 5) 0 dX6_doGo_19 mH_o rfl q2643 (Or.inl rfl) (Nat.le_of_ble_eq_true rfl) (by rfl) ?_
      refine wa_iconst (pc := 22) (y := mX6_doGo) (Int32.ofNat 2) dX6_doGo_22 rfl ?_
      refine wa_ialoadN (pc := 23) (y := mX6_doGo) dX6_doGo_23 mH_1 (by omega) ?_
      refine wa_callV (pc := 24) (s_X6_nextCue (d := d - 1) (by omega) hI) dX6_doGo_24 okX6_nextCue q2914 q2916 qs67 mH_o rfl rfl rfl (Nat.le_of_ble_eq_true rfl) (Nat.le_of_ble_eq_true rfl) (by omega) ?_
      rintro _ _ - - ⟨rfl, rfl⟩
      refine aft_v (pc2 := 27) ?_ rfl
      refine wa_istore_n (pc := 27) (y := mX6_doGo) dX6_doGo_27 (Nat.le_of_ble_eq_true rfl) rfl ?_
      change WA _ _ _ _ (List.set _ 2 _) _ _ _
      simp only [List.set_cons_zero, List.set_cons_succ]
      refine wa_iload_n (pc := 28) (y := mX6_doGo) dX6_doGo_28 rfl ?_
      refine wa_if_ne (pc := 29) 46 dX6_doGo_29 rfl (fun hb29 => ?_) (fun hb29 => absurd hb29 e)
      first | refine wa_aload_n (pc := 46) (y := mX6_doGo) dX6_doGo_46 rfl ?_ | refine wa_aload_nN (pc := 46) (y := mX6_doGo) dX6_doGo_46 rfl ?_ | refine wa_aload_nq (pc := 46) (y := mX6_doGo) dX6_doGo_46 rfl ?_
      refine wa_iload_n (pc := 47) (y := mX6_doGo) dX6_doGo_47 rfl ?_
      refine wa_callV (pc := 48) (s_X6_goes (d := d - 1) (by omega) hI hp) dX6_doGo_48 okX6_goes q2918 q2920 qs68 mH_o rfl rfl rfl (Nat.le_of_ble_eq_true rfl) (Nat.le_of_ble_eq_true rfl) (by omega) ?_
      rintro _ _ - - ⟨rfl, rfl⟩
      refine aft_v (pc2 := 51) ?_ rfl
      refine wa_pop (pc := 51) (y := mX6_doGo) dX6_doGo_51 rfl ?_
      refine wa_iconst (pc := 52) (y := mX6_doGo) (Int32.ofNat 0) dX6_doGo_52 rfl ?_
      exact wa_ireturn (pc := 53) (y := mX6_doGo) .int dX6_doGo_53 rfl rfl ⟨rfl, rfl⟩
theorem s_X6_doPass {t : Int32} (hd : 4 ≤ d) (hI : Inv f) : MA G d mX6_doPass [.ref m, .int t] (mH h m f σ) (fun r h' => r = .inl (some (.int (Int32.ofNat (dPs f t).1))) ∧ h' = mH h m (dPs f t).2 σ) := by
  show WA _ _ _ 0 [.ref m, .int _, .retAddr 0, .retAddr 0] [] _ _
  cases e1 : inb t 0 6000 with
  | false =>
    rw [show dPs f t = (1, f) from if_pos e1]
    refine wa_iload_n (pc := 0) (y := mX6_doPass) dX6_doPass_0 rfl ?_
    refine wa_iconst (pc := 1) (y := mX6_doPass) (Int32.ofNat 0) dX6_doPass_1 rfl ?_
    refine wa_sipush (pc := 2) (y := mX6_doPass) (Int32.ofNat 6000) dX6_doPass_2 rfl ?_
    refine wa_callS (pc := 5) (s_X6_in (d := d - 1)) dX6_doPass_5 okX6_in q2716 q2717 rfl rfl (Nat.le_of_ble_eq_true rfl) (Nat.le_of_ble_eq_true rfl) (by omega) ?_
    rintro _ _ - - ⟨rfl, rfl⟩
    refine aft_v (pc2 := 8) ?_ rfl
    rw [show inb t (Int32.ofNat 0) (Int32.ofNat 6000) = false from e1]
    refine wa_if_ne (pc := 8) 13 dX6_doPass_8 rfl (fun hb8 => absurd rfl hb8) (fun hb8 => ?_)
    refine wa_iconst (pc := 11) (y := mX6_doPass) (Int32.ofNat 1) dX6_doPass_11 rfl ?_
    exact wa_ireturn (pc := 12) (y := mX6_doPass) .int dX6_doPass_12 rfl rfl ⟨rfl, rfl⟩
  | true =>
    by_cases e2 : 100000 < f 5 + t
    · rw [show dPs f t = (2, f) from (if_neg (by rw [e1]; decide)).trans (if_pos e2)]
      refine wa_iload_n (pc := 0) (y := mX6_doPass) dX6_doPass_0 rfl ?_
      refine wa_iconst (pc := 1) (y := mX6_doPass) (Int32.ofNat 0) dX6_doPass_1 rfl ?_
      refine wa_sipush (pc := 2) (y := mX6_doPass) (Int32.ofNat 6000) dX6_doPass_2 rfl ?_
      refine wa_callS (pc := 5) (s_X6_in (d := d - 1)) dX6_doPass_5 okX6_in q2716 q2717 rfl rfl (Nat.le_of_ble_eq_true rfl) (Nat.le_of_ble_eq_true rfl) (by omega) ?_
      rintro _ _ - - ⟨rfl, rfl⟩
      refine aft_v (pc2 := 8) ?_ rfl
      rw [show inb t (Int32.ofNat 0) (Int32.ofNat 6000) = true from e1]
      refine wa_if_ne (pc := 8) 13 dX6_doPass_8 rfl (fun hb8 => ?_) (fun hb8 => absurd hb8 (by decide))
      first | refine wa_aload_n (pc := 13) (y := mX6_doPass) dX6_doPass_13 rfl ?_ | refine wa_aload_nN (pc := 13) (y := mX6_doPass) dX6_doPass_13 rfl ?_ | refine wa_aload_nq (pc := 13) (y := mX6_doPass) dX6_doPass_13 rfl ?_
      refine wa_getf (pc := 14) (y := mX6_doPass) (k := 5) 0 dX6_doPass_14 mH_o rfl q2643 (Or.inl rfl) (Nat.le_of_ble_eq_true rfl) (by rfl) ?_
      refine wa_iconst (pc := 17) (y := mX6_doPass) (Int32.ofNat 5) dX6_doPass_17 rfl ?_
      refine wa_ialoadN (pc := 18) (y := mX6_doPass) dX6_doPass_18 mH_1 (by omega) ?_
      refine wa_iload_n (pc := 19) (y := mX6_doPass) dX6_doPass_19 rfl ?_
      first | with_reducible refine wa_iaddN (pc := 20) (y := mX6_doPass) dX6_doPass_20 ?_ | refine wa_iadd (pc := 20) (y := mX6_doPass) dX6_doPass_20 ?_
      refine wa_ldc (pc := 21) (y := mX6_doPass) dX6_doPass_21 q2945 ?_
      refine wa_icmp_le (pc := 23) 28 dX6_doPass_23 rfl (fun hb23 => absurd hb23 (Int32.not_le.mpr e2)) (fun hb23 => ?_)
      refine wa_iconst (pc := 26) (y := mX6_doPass) (Int32.ofNat 2) dX6_doPass_26 rfl ?_
      exact wa_ireturn (pc := 27) (y := mX6_doPass) .int dX6_doPass_27 rfl rfl ⟨rfl, rfl⟩
    · rw [show dPs f t = (0, tkN f (u t)) from (if_neg (by rw [e1]; decide)).trans (if_neg e2)]
      have ht : t = Int32.ofNat (u t) ∧ u t ≤ 6000 := by
        have ha : 0 ≤ t ∧ t ≤ 6000 := by
          unfold inb at e1
          rw [Bool.and_eq_true, decide_eq_true_eq, decide_eq_true_eq] at e1
          exact e1
        refine ⟨(u_self t).symm, ?_⟩
        have h1 := Int32.le_iff_toInt_le.mp ha.1
        have h2 := Int32.le_iff_toInt_le.mp ha.2
        rw [show (0 : Int32).toInt = 0 from by decide] at h1
        rw [show (6000 : Int32).toInt = 6000 from by decide] at h2
        have h3 : t.toInt = ((u t : Nat) : Int) := by
          show t.toBitVec.toInt = (t.toBitVec.toNat : Int)
          exact BitVec.toInt_eq_toNat_of_lt (by
            have h4 : t.toBitVec.toInt = t.toInt := rfl
            rw [← h4] at h1
            rcases Nat.lt_or_ge (2 * t.toBitVec.toNat) (2 ^ 32) with q | q
            · exact q
            · rw [BitVec.toInt_eq_toNat_cond, if_neg (by omega)] at h1
              have := t.toBitVec.isLt
              omega)
        omega
      obtain ⟨ht1, ht2⟩ := ht
      have lp : ∀ k2 k q, k + k2 = u t → WA G d mX6_doPass 30 [.ref m, .int t, .int (Int32.ofNat k), q] [] (mH h m (tkN f k) σ) (fun r h' => r = .inl (some (.int (Int32.ofNat 0))) ∧ h' = mH h m (tkN f (u t)) σ) := by
        intro k2
        induction k2 with
        | zero =>
          intro k q hk
          obtain rfl : k = u t := hk
          refine wa_iload_n (pc := 30) (y := mX6_doPass) dX6_doPass_30 rfl ?_
          refine wa_iload_n (pc := 31) (y := mX6_doPass) dX6_doPass_31 rfl ?_
          rw [ht1, u_of (by omega)]
          refine wa_icmp_ge (pc := 32) 154 dX6_doPass_32 rfl (fun hb32 => ?_) (fun hb32 => absurd (Int32.le_refl _) hb32)
          refine wa_iconst (pc := 154) (y := mX6_doPass) (Int32.ofNat 0) dX6_doPass_154 rfl ?_
          exact wa_ireturn (pc := 155) (y := mX6_doPass) .int dX6_doPass_155 rfl rfl ⟨rfl, rfl⟩
        | succ k2 ih =>
          intro k q hk
          have hI1 := tkN_inv hI (k := k)
          have ihc := fun q => ih (k + 1) q (by omega)
          replace ihc : ∀ q, WA G d mX6_doPass 30 [.ref m, .int t, .int (Int32.ofNat (k + 1)), q] [] (mH h m (tk2 (tk1 (tkN f k))) σ) (fun r h' => r = .inl (some (.int (Int32.ofNat 0))) ∧ h' = mH h m (tkN f (u t)) σ) := ihc
          generalize tkN f k = g at hI1 ihc ⊢
          have eI : Inv (tk1 g) := tk1_eqv.inv hI1
          have at97 : ∀ q, WA G d mX6_doPass 97 [.ref m, .int t, .int (Int32.ofNat k), q] [] (mH h m (tk1 g) σ) (fun r h' => r = .inl (some (.int (Int32.ofNat 0))) ∧ h' = mH h m (tkN f (u t)) σ) := by
            intro q
            generalize tk1 g = g2 at eI ihc
            have hn := eI.1
            cases e3 : flB g2 with
            | false =>
              rw [show tk2 g2 = g2 from if_neg (by unfold goB; rw [e3]; simp)] at ihc
              first | refine wa_aload_n (pc := 97) (y := mX6_doPass) dX6_doPass_97 rfl ?_ | refine wa_aload_nN (pc := 97) (y := mX6_doPass) dX6_doPass_97 rfl ?_ | refine wa_aload_nq (pc := 97) (y := mX6_doPass) dX6_doPass_97 rfl ?_
              refine wa_callV (pc := 98) (s_X6_follows (d := d - 1) (by omega) eI) dX6_doPass_98 okX6_follows q2946 q2948 qs71 mH_o rfl rfl rfl (Nat.le_of_ble_eq_true rfl) (Nat.le_of_ble_eq_true rfl) (by omega) ?_
              rintro _ _ - - ⟨rfl, rfl⟩
              refine aft_v (pc2 := 101) ?_ rfl
              rw [e3]
              refine wa_if_eq (pc := 101) 148 dX6_doPass_101 rfl (fun hb101 => ?_) (fun hb101 => absurd rfl hb101)
              first | with_reducible refine wa_iincN (pc := 148) (y := mX6_doPass) dX6_doPass_148 rfl (Nat.le_of_ble_eq_true rfl) rfl ?_ | refine wa_iinc (pc := 148) (y := mX6_doPass) (1) dX6_doPass_148 rfl rfl (Nat.le_of_ble_eq_true rfl) rfl ?_
              simp only [List.set_cons_zero, List.set_cons_succ]
              refine wa_goto (pc := 151) (y := mX6_doPass) 30 dX6_doPass_151 rfl ?_
              exact ihc _
            | true =>
              obtain ⟨p, hp⟩ : ∃ p, pl g2 (g2 2) = some p := by
                cases e : pl g2 (g2 2) with
                | some p => exact ⟨p, rfl⟩
                | none => unfold flB at e3; rw [e, Bool.and_false] at e3; exact absurd e3 (by decide)
              have hps := (pl_some hp).1
              have hnx : 0 < nx g2 (g2 2) := by
                unfold flB at e3
                rw [hp] at e3
                simp only [Bool.and_eq_true, decide_eq_true_eq] at e3
                exact e3.2.2
              have hne : nx g2 (g2 2) ≠ 0 := fun e => by rw [e] at hnx; exact absurd hnx (by decide)
              obtain ⟨p2, hp2⟩ := nx_pl hne
              by_cases e4 : g2 (18 + 12 * p + 1) ≤ g2 3
              · rw [show tk2 g2 = goF g2 (nx g2 (g2 2)) p2 by unfold tk2 goB; rw [e3, hp]; simp only [Bool.true_and, decide_eq_true e4, if_true]; unfold goX; rw [hp2]] at ihc
                first | refine wa_aload_n (pc := 97) (y := mX6_doPass) dX6_doPass_97 rfl ?_ | refine wa_aload_nN (pc := 97) (y := mX6_doPass) dX6_doPass_97 rfl ?_ | refine wa_aload_nq (pc := 97) (y := mX6_doPass) dX6_doPass_97 rfl ?_
                refine wa_callV (pc := 98) (s_X6_follows (d := d - 1) (by omega) eI) dX6_doPass_98 okX6_follows q2946 q2948 qs71 mH_o rfl rfl rfl (Nat.le_of_ble_eq_true rfl) (Nat.le_of_ble_eq_true rfl) (by omega) ?_
                rintro _ _ - - ⟨rfl, rfl⟩
                refine aft_v (pc2 := 101) ?_ rfl
                rw [e3]
                refine wa_if_eq (pc := 101) 148 dX6_doPass_101 rfl (fun hb101 => absurd hb101 (by decide)) (fun hb101 => ?_)
                first | refine wa_aload_n (pc := 104) (y := mX6_doPass) dX6_doPass_104 rfl ?_ | refine wa_aload_nN (pc := 104) (y := mX6_doPass) dX6_doPass_104 rfl ?_ | refine wa_aload_nq (pc := 104) (y := mX6_doPass) dX6_doPass_104 rfl ?_
                refine wa_getf (pc := 105) (y := mX6_doPass) (k := 5) 0 dX6_doPass_105 mH_o rfl q2643 (Or.inl rfl) (Nat.le_of_ble_eq_true rfl) (by rfl) ?_
                first | refine wa_aload_n (pc := 108) (y := mX6_doPass) dX6_doPass_108 rfl ?_ | refine wa_aload_nN (pc := 108) (y := mX6_doPass) dX6_doPass_108 rfl ?_ | refine wa_aload_nq (pc := 108) (y := mX6_doPass) dX6_doPass_108 rfl ?_
                first | refine wa_aload_n (pc := 109) (y := mX6_doPass) dX6_doPass_109 rfl ?_ | refine wa_aload_nN (pc := 109) (y := mX6_doPass) dX6_doPass_109 rfl ?_ | refine wa_aload_nq (pc := 109) (y := mX6_doPass) dX6_doPass_109 rfl ?_
                refine wa_getf (pc := 110) (y := mX6_doPass) (k := 5) 0 dX6_doPass_110 mH_o rfl q2643 (Or.inl rfl) (Nat.le_of_ble_eq_true rfl) (by rfl) ?_
                refine wa_iconst (pc := 113) (y := mX6_doPass) (Int32.ofNat 2) dX6_doPass_113 rfl ?_
                refine wa_ialoadN (pc := 114) (y := mX6_doPass) dX6_doPass_114 mH_1 (by omega) ?_
                refine wa_callV (pc := 115) (s_X6_placeOf (d := d - 1) (by omega) eI) dX6_doPass_115 okX6_placeOf q2723 q2725 qs42 mH_o rfl rfl rfl (Nat.le_of_ble_eq_true rfl) (Nat.le_of_ble_eq_true rfl) (by omega) ?_
                rintro _ _ - - ⟨rfl, rfl⟩
                refine aft_v (pc2 := 118) ?_ rfl
                rw [hp, oI_some]
                refine wa_callS (pc := 118) (s_X6_at (d := d - 1)) dX6_doPass_118 okX6_at q2727 q2728 rfl rfl (Nat.le_of_ble_eq_true rfl) (Nat.le_of_ble_eq_true rfl) (by omega) ?_
                rintro _ _ - - ⟨rfl, rfl⟩
                refine aft_v (pc2 := 121) ?_ rfl
                refine wa_iconst (pc := 121) (y := mX6_doPass) (Int32.ofNat 1) dX6_doPass_121 rfl ?_
                first | with_reducible refine wa_iaddN (pc := 122) (y := mX6_doPass) dX6_doPass_122 ?_ | refine wa_iadd (pc := 122) (y := mX6_doPass) dX6_doPass_122 ?_
                refine wa_ialoadN (pc := 123) (y := mX6_doPass) dX6_doPass_123 mH_1 (by omega) ?_
                first | refine wa_aload_n (pc := 124) (y := mX6_doPass) dX6_doPass_124 rfl ?_ | refine wa_aload_nN (pc := 124) (y := mX6_doPass) dX6_doPass_124 rfl ?_ | refine wa_aload_nq (pc := 124) (y := mX6_doPass) dX6_doPass_124 rfl ?_
                refine wa_getf (pc := 125) (y := mX6_doPass) (k := 5) 0 dX6_doPass_125 mH_o rfl q2643 (Or.inl rfl) (Nat.le_of_ble_eq_true rfl) (by rfl) ?_
                refine wa_iconst (pc := 128) (y := mX6_doPass) (Int32.ofNat 3) dX6_doPass_128 rfl ?_
                refine wa_ialoadN (pc := 129) (y := mX6_doPass) dX6_doPass_129 mH_1 (by omega) ?_
                refine wa_icmp_gt (pc := 130) 148 dX6_doPass_130 rfl (fun hb130 => absurd hb130 (Int32.not_lt.mpr e4)) (fun hb130 => ?_)
                first | refine wa_aload_n (pc := 133) (y := mX6_doPass) dX6_doPass_133 rfl ?_ | refine wa_aload_nN (pc := 133) (y := mX6_doPass) dX6_doPass_133 rfl ?_ | refine wa_aload_nq (pc := 133) (y := mX6_doPass) dX6_doPass_133 rfl ?_
                first | refine wa_aload_n (pc := 134) (y := mX6_doPass) dX6_doPass_134 rfl ?_ | refine wa_aload_nN (pc := 134) (y := mX6_doPass) dX6_doPass_134 rfl ?_ | refine wa_aload_nq (pc := 134) (y := mX6_doPass) dX6_doPass_134 rfl ?_
                first | refine wa_aload_n (pc := 135) (y := mX6_doPass) dX6_doPass_135 rfl ?_ | refine wa_aload_nN (pc := 135) (y := mX6_doPass) dX6_doPass_135 rfl ?_ | refine wa_aload_nq (pc := 135) (y := mX6_doPass) dX6_doPass_135 rfl ?_
                refine wa_getf (pc := 136) (y := mX6_doPass) (k := 5) 0 dX6_doPass_136 mH_o rfl q2643 (Or.inl rfl) (Nat.le_of_ble_eq_true rfl) (by rfl) ?_
                refine wa_iconst (pc := 139) (y := mX6_doPass) (Int32.ofNat 2) dX6_doPass_139 rfl ?_
                refine wa_ialoadN (pc := 140) (y := mX6_doPass) dX6_doPass_140 mH_1 (by omega) ?_
                refine wa_callV (pc := 141) (s_X6_nextCue (d := d - 1) (by omega) eI) dX6_doPass_141 okX6_nextCue q2914 q2916 qs67 mH_o rfl rfl rfl (Nat.le_of_ble_eq_true rfl) (Nat.le_of_ble_eq_true rfl) (by omega) ?_
                rintro _ _ - - ⟨rfl, rfl⟩
                refine aft_v (pc2 := 144) ?_ rfl
                refine wa_callV (pc := 144) (s_X6_goes (d := d - 1) (by omega) eI hp2) dX6_doPass_144 okX6_goes q2918 q2920 qs68 mH_o rfl rfl rfl (Nat.le_of_ble_eq_true rfl) (Nat.le_of_ble_eq_true rfl) (by omega) ?_
                rintro _ _ - - ⟨rfl, rfl⟩
                refine aft_v (pc2 := 147) ?_ rfl
                refine wa_pop (pc := 147) (y := mX6_doPass) dX6_doPass_147 rfl ?_
                first | with_reducible refine wa_iincN (pc := 148) (y := mX6_doPass) dX6_doPass_148 rfl (Nat.le_of_ble_eq_true rfl) rfl ?_ | refine wa_iinc (pc := 148) (y := mX6_doPass) (1) dX6_doPass_148 rfl rfl (Nat.le_of_ble_eq_true rfl) rfl ?_
                simp only [List.set_cons_zero, List.set_cons_succ]
                refine wa_goto (pc := 151) (y := mX6_doPass) 30 dX6_doPass_151 rfl ?_
                exact ihc _
              · rw [show tk2 g2 = g2 by unfold tk2 goB; rw [e3, hp]; simp only [Bool.true_and, decide_eq_false e4]; rfl] at ihc
                first | refine wa_aload_n (pc := 97) (y := mX6_doPass) dX6_doPass_97 rfl ?_ | refine wa_aload_nN (pc := 97) (y := mX6_doPass) dX6_doPass_97 rfl ?_ | refine wa_aload_nq (pc := 97) (y := mX6_doPass) dX6_doPass_97 rfl ?_
                refine wa_callV (pc := 98) (s_X6_follows (d := d - 1) (by omega) eI) dX6_doPass_98 okX6_follows q2946 q2948 qs71 mH_o rfl rfl rfl (Nat.le_of_ble_eq_true rfl) (Nat.le_of_ble_eq_true rfl) (by omega) ?_
                rintro _ _ - - ⟨rfl, rfl⟩
                refine aft_v (pc2 := 101) ?_ rfl
                rw [e3]
                refine wa_if_eq (pc := 101) 148 dX6_doPass_101 rfl (fun hb101 => absurd hb101 (by decide)) (fun hb101 => ?_)
                first | refine wa_aload_n (pc := 104) (y := mX6_doPass) dX6_doPass_104 rfl ?_ | refine wa_aload_nN (pc := 104) (y := mX6_doPass) dX6_doPass_104 rfl ?_ | refine wa_aload_nq (pc := 104) (y := mX6_doPass) dX6_doPass_104 rfl ?_
                refine wa_getf (pc := 105) (y := mX6_doPass) (k := 5) 0 dX6_doPass_105 mH_o rfl q2643 (Or.inl rfl) (Nat.le_of_ble_eq_true rfl) (by rfl) ?_
                first | refine wa_aload_n (pc := 108) (y := mX6_doPass) dX6_doPass_108 rfl ?_ | refine wa_aload_nN (pc := 108) (y := mX6_doPass) dX6_doPass_108 rfl ?_ | refine wa_aload_nq (pc := 108) (y := mX6_doPass) dX6_doPass_108 rfl ?_
                first | refine wa_aload_n (pc := 109) (y := mX6_doPass) dX6_doPass_109 rfl ?_ | refine wa_aload_nN (pc := 109) (y := mX6_doPass) dX6_doPass_109 rfl ?_ | refine wa_aload_nq (pc := 109) (y := mX6_doPass) dX6_doPass_109 rfl ?_
                refine wa_getf (pc := 110) (y := mX6_doPass) (k := 5) 0 dX6_doPass_110 mH_o rfl q2643 (Or.inl rfl) (Nat.le_of_ble_eq_true rfl) (by rfl) ?_
                refine wa_iconst (pc := 113) (y := mX6_doPass) (Int32.ofNat 2) dX6_doPass_113 rfl ?_
                refine wa_ialoadN (pc := 114) (y := mX6_doPass) dX6_doPass_114 mH_1 (by omega) ?_
                refine wa_callV (pc := 115) (s_X6_placeOf (d := d - 1) (by omega) eI) dX6_doPass_115 okX6_placeOf q2723 q2725 qs42 mH_o rfl rfl rfl (Nat.le_of_ble_eq_true rfl) (Nat.le_of_ble_eq_true rfl) (by omega) ?_
                rintro _ _ - - ⟨rfl, rfl⟩
                refine aft_v (pc2 := 118) ?_ rfl
                rw [hp, oI_some]
                refine wa_callS (pc := 118) (s_X6_at (d := d - 1)) dX6_doPass_118 okX6_at q2727 q2728 rfl rfl (Nat.le_of_ble_eq_true rfl) (Nat.le_of_ble_eq_true rfl) (by omega) ?_
                rintro _ _ - - ⟨rfl, rfl⟩
                refine aft_v (pc2 := 121) ?_ rfl
                refine wa_iconst (pc := 121) (y := mX6_doPass) (Int32.ofNat 1) dX6_doPass_121 rfl ?_
                first | with_reducible refine wa_iaddN (pc := 122) (y := mX6_doPass) dX6_doPass_122 ?_ | refine wa_iadd (pc := 122) (y := mX6_doPass) dX6_doPass_122 ?_
                refine wa_ialoadN (pc := 123) (y := mX6_doPass) dX6_doPass_123 mH_1 (by omega) ?_
                first | refine wa_aload_n (pc := 124) (y := mX6_doPass) dX6_doPass_124 rfl ?_ | refine wa_aload_nN (pc := 124) (y := mX6_doPass) dX6_doPass_124 rfl ?_ | refine wa_aload_nq (pc := 124) (y := mX6_doPass) dX6_doPass_124 rfl ?_
                refine wa_getf (pc := 125) (y := mX6_doPass) (k := 5) 0 dX6_doPass_125 mH_o rfl q2643 (Or.inl rfl) (Nat.le_of_ble_eq_true rfl) (by rfl) ?_
                refine wa_iconst (pc := 128) (y := mX6_doPass) (Int32.ofNat 3) dX6_doPass_128 rfl ?_
                refine wa_ialoadN (pc := 129) (y := mX6_doPass) dX6_doPass_129 mH_1 (by omega) ?_
                refine wa_icmp_gt (pc := 130) 148 dX6_doPass_130 rfl (fun hb130 => ?_) (fun hb130 => absurd (Int32.not_le.mp e4) hb130)
                first | with_reducible refine wa_iincN (pc := 148) (y := mX6_doPass) dX6_doPass_148 rfl (Nat.le_of_ble_eq_true rfl) rfl ?_ | refine wa_iinc (pc := 148) (y := mX6_doPass) (1) dX6_doPass_148 rfl rfl (Nat.le_of_ble_eq_true rfl) rfl ?_
                simp only [List.set_cons_zero, List.set_cons_succ]
                refine wa_goto (pc := 151) (y := mX6_doPass) 30 dX6_doPass_151 rfl ?_
                exact ihc _
          have lq : ∀ f2, tk1 g = sgN f2 12 → ∀ c2 c, c + c2 = 12 → WA G d mX6_doPass 70 [.ref m, .int t, .int (Int32.ofNat k), .int (Int32.ofNat c)] [] (mH h m (sgN f2 c) σ) (fun r h' => r = .inl (some (.int (Int32.ofNat 0))) ∧ h' = mH h m (tkN f (u t)) σ) := by
            intro f2 e2 c2
            induction c2 with
            | zero =>
              intro c hc
              obtain rfl : c = 12 := hc
              refine wa_iload_n (pc := 70) (y := mX6_doPass) dX6_doPass_70 rfl ?_
              refine wa_bipush (pc := 71) (y := mX6_doPass) (Int32.ofNat 12) dX6_doPass_71 rfl ?_
              refine wa_icmp_ge (pc := 73) 97 dX6_doPass_73 rfl (fun hb73 => ?_) (fun hb73 => absurd ((iN_le (by omega) (by omega)).mpr (by omega)) hb73)
              rw [← e2]
              exact at97 _
            | succ c2 ih2 =>
              intro c hc
              refine wa_iload_n (pc := 70) (y := mX6_doPass) dX6_doPass_70 rfl ?_
              refine wa_bipush (pc := 71) (y := mX6_doPass) (Int32.ofNat 12) dX6_doPass_71 rfl ?_
              refine wa_icmp_ge (pc := 73) 97 dX6_doPass_73 rfl (fun hb73 => absurd ((iN_le (by omega) (by omega)).mp hb73) (by omega)) (fun hb73 => ?_)
              first | refine wa_aload_n (pc := 76) (y := mX6_doPass) dX6_doPass_76 rfl ?_ | refine wa_aload_nN (pc := 76) (y := mX6_doPass) dX6_doPass_76 rfl ?_ | refine wa_aload_nq (pc := 76) (y := mX6_doPass) dX6_doPass_76 rfl ?_
              refine wa_getf (pc := 77) (y := mX6_doPass) (k := 5) 0 dX6_doPass_77 mH_o rfl q2643 (Or.inl rfl) (Nat.le_of_ble_eq_true rfl) (by rfl) ?_
              refine wa_iload_n (pc := 80) (y := mX6_doPass) dX6_doPass_80 rfl ?_
              refine wa_callS (pc := 81) (s_X6_fade (d := d - 1)) dX6_doPass_81 okX6_fade q2922 q2923 rfl rfl (Nat.le_of_ble_eq_true rfl) (Nat.le_of_ble_eq_true rfl) (by omega) ?_
              rintro _ _ - - ⟨rfl, rfl⟩
              refine aft_v (pc2 := 84) ?_ rfl
              refine wa_iconst (pc := 84) (y := mX6_doPass) (Int32.ofNat 2) dX6_doPass_84 rfl ?_
              first | with_reducible refine wa_iaddN (pc := 85) (y := mX6_doPass) dX6_doPass_85 ?_ | refine wa_iadd (pc := 85) (y := mX6_doPass) dX6_doPass_85 ?_
              refine wa_dup2 (pc := 86) (y := mX6_doPass) dX6_doPass_86 rfl rfl ?_
              refine wa_ialoadN (pc := 87) (y := mX6_doPass) dX6_doPass_87 mH_1 (by omega) ?_
              refine wa_iconst (pc := 88) (y := mX6_doPass) (Int32.ofNat 1) dX6_doPass_88 rfl ?_
              first | with_reducible refine wa_iaddN (pc := 89) (y := mX6_doPass) dX6_doPass_89 ?_ | refine wa_iadd (pc := 89) (y := mX6_doPass) dX6_doPass_89 ?_
              refine wa_iastoreN (pc := 90) (y := mX6_doPass) dX6_doPass_90 mH_1 (by omega) ?_
              rw [mW_1]
              first | with_reducible refine wa_iincN (pc := 91) (y := mX6_doPass) dX6_doPass_91 rfl (Nat.le_of_ble_eq_true rfl) rfl ?_ | refine wa_iinc (pc := 91) (y := mX6_doPass) (1) dX6_doPass_91 rfl rfl (Nat.le_of_ble_eq_true rfl) rfl ?_
              simp only [List.set_cons_zero, List.set_cons_succ]
              refine wa_goto (pc := 94) (y := mX6_doPass) 70 dX6_doPass_94 rfl ?_
              exact ih2 (c + 1) (by omega)
          refine wa_iload_n (pc := 30) (y := mX6_doPass) dX6_doPass_30 rfl ?_
          refine wa_iload_n (pc := 31) (y := mX6_doPass) dX6_doPass_31 rfl ?_
          rw [ht1]
          refine wa_icmp_ge (pc := 32) 154 dX6_doPass_32 rfl (fun hb32 => absurd ((iN_le (by omega) (by omega)).mp hb32) (by omega)) (fun hb32 => ?_)
          first | refine wa_aload_n (pc := 35) (y := mX6_doPass) dX6_doPass_35 rfl ?_ | refine wa_aload_nN (pc := 35) (y := mX6_doPass) dX6_doPass_35 rfl ?_ | refine wa_aload_nq (pc := 35) (y := mX6_doPass) dX6_doPass_35 rfl ?_
          refine wa_getf (pc := 36) (y := mX6_doPass) (k := 5) 0 dX6_doPass_36 mH_o rfl q2643 (Or.inl rfl) (Nat.le_of_ble_eq_true rfl) (by rfl) ?_
          refine wa_iconst (pc := 39) (y := mX6_doPass) (Int32.ofNat 5) dX6_doPass_39 rfl ?_
          refine wa_dup2 (pc := 40) (y := mX6_doPass) dX6_doPass_40 rfl rfl ?_
          refine wa_ialoadN (pc := 41) (y := mX6_doPass) dX6_doPass_41 mH_1 (by omega) ?_
          refine wa_iconst (pc := 42) (y := mX6_doPass) (Int32.ofNat 1) dX6_doPass_42 rfl ?_
          first | with_reducible refine wa_iaddN (pc := 43) (y := mX6_doPass) dX6_doPass_43 ?_ | refine wa_iadd (pc := 43) (y := mX6_doPass) dX6_doPass_43 ?_
          refine wa_iastoreN (pc := 44) (y := mX6_doPass) dX6_doPass_44 mH_1 (by omega) ?_
          rw [mW_1]
          first | refine wa_aload_n (pc := 45) (y := mX6_doPass) dX6_doPass_45 rfl ?_ | refine wa_aload_nN (pc := 45) (y := mX6_doPass) dX6_doPass_45 rfl ?_ | refine wa_aload_nq (pc := 45) (y := mX6_doPass) dX6_doPass_45 rfl ?_
          refine wa_getf (pc := 46) (y := mX6_doPass) (k := 5) 0 dX6_doPass_46 mH_o rfl q2643 (Or.inl rfl) (Nat.le_of_ble_eq_true rfl) (by rfl) ?_
          refine wa_iconst (pc := 49) (y := mX6_doPass) (Int32.ofNat 3) dX6_doPass_49 rfl ?_
          refine wa_dup2 (pc := 50) (y := mX6_doPass) dX6_doPass_50 rfl rfl ?_
          refine wa_ialoadN (pc := 51) (y := mX6_doPass) dX6_doPass_51 mH_1 (by omega) ?_
          rw [upd_o _ _ (by omega)]
          first | refine wa_aload_n (pc := 52) (y := mX6_doPass) dX6_doPass_52 rfl ?_ | refine wa_aload_nN (pc := 52) (y := mX6_doPass) dX6_doPass_52 rfl ?_ | refine wa_aload_nq (pc := 52) (y := mX6_doPass) dX6_doPass_52 rfl ?_
          refine wa_getf (pc := 53) (y := mX6_doPass) (k := 5) 0 dX6_doPass_53 mH_o rfl q2643 (Or.inl rfl) (Nat.le_of_ble_eq_true rfl) (by rfl) ?_
          refine wa_iconst (pc := 56) (y := mX6_doPass) (Int32.ofNat 2) dX6_doPass_56 rfl ?_
          refine wa_ialoadN (pc := 57) (y := mX6_doPass) dX6_doPass_57 mH_1 (by omega) ?_
          rw [upd_o _ _ (by omega)]
          refine wa_if_le (pc := 58) 65 dX6_doPass_58 rfl (fun hb58 => ?_) (fun hb58 => ?_)
          · have ee : tk1 g = sgN (upd (upd g 5 (g 5 + Int32.ofNat 1)) 3 (g 3 + Int32.ofNat 0)) 12 := by unfold tk1; rw [if_neg (Int32.not_lt.mpr hb58)]; rfl
            refine wa_iconst (pc := 65) (y := mX6_doPass) (Int32.ofNat 0) dX6_doPass_65 rfl ?_
            first | with_reducible refine wa_iaddN (pc := 66) (y := mX6_doPass) dX6_doPass_66 ?_ | refine wa_iadd (pc := 66) (y := mX6_doPass) dX6_doPass_66 ?_
            refine wa_iastoreN (pc := 67) (y := mX6_doPass) dX6_doPass_67 mH_1 (by omega) ?_
            rw [mW_1]
            refine wa_iconst (pc := 68) (y := mX6_doPass) (Int32.ofNat 0) dX6_doPass_68 rfl ?_
            refine wa_istore_n (pc := 69) (y := mX6_doPass) dX6_doPass_69 (Nat.le_of_ble_eq_true rfl) rfl ?_
            change WA _ _ _ _ (List.set _ 3 _) _ _ _
            simp only [List.set_cons_zero, List.set_cons_succ]
            rw [← ht1]
            exact lq _ ee 12 0 (by omega)
          · have ee : tk1 g = sgN (upd (upd g 5 (g 5 + Int32.ofNat 1)) 3 (g 3 + Int32.ofNat 1)) 12 := by unfold tk1; rw [if_pos (Int32.not_le.mp hb58)]; rfl
            refine wa_iconst (pc := 61) (y := mX6_doPass) (Int32.ofNat 1) dX6_doPass_61 rfl ?_
            refine wa_goto (pc := 62) (y := mX6_doPass) 66 dX6_doPass_62 rfl ?_
            first | with_reducible refine wa_iaddN (pc := 66) (y := mX6_doPass) dX6_doPass_66 ?_ | refine wa_iadd (pc := 66) (y := mX6_doPass) dX6_doPass_66 ?_
            refine wa_iastoreN (pc := 67) (y := mX6_doPass) dX6_doPass_67 mH_1 (by omega) ?_
            rw [mW_1]
            refine wa_iconst (pc := 68) (y := mX6_doPass) (Int32.ofNat 0) dX6_doPass_68 rfl ?_
            refine wa_istore_n (pc := 69) (y := mX6_doPass) dX6_doPass_69 (Nat.le_of_ble_eq_true rfl) rfl ?_
            change WA _ _ _ _ (List.set _ 3 _) _ _ _
            simp only [List.set_cons_zero, List.set_cons_succ]
            rw [← ht1]
            exact lq _ ee 12 0 (by omega)
      refine wa_iload_n (pc := 0) (y := mX6_doPass) dX6_doPass_0 rfl ?_
      refine wa_iconst (pc := 1) (y := mX6_doPass) (Int32.ofNat 0) dX6_doPass_1 rfl ?_
      refine wa_sipush (pc := 2) (y := mX6_doPass) (Int32.ofNat 6000) dX6_doPass_2 rfl ?_
      refine wa_callS (pc := 5) (s_X6_in (d := d - 1)) dX6_doPass_5 okX6_in q2716 q2717 rfl rfl (Nat.le_of_ble_eq_true rfl) (Nat.le_of_ble_eq_true rfl) (by omega) ?_
      rintro _ _ - - ⟨rfl, rfl⟩
      refine aft_v (pc2 := 8) ?_ rfl
      rw [show inb t (Int32.ofNat 0) (Int32.ofNat 6000) = true from e1]
      refine wa_if_ne (pc := 8) 13 dX6_doPass_8 rfl (fun hb8 => ?_) (fun hb8 => absurd hb8 (by decide))
      first | refine wa_aload_n (pc := 13) (y := mX6_doPass) dX6_doPass_13 rfl ?_ | refine wa_aload_nN (pc := 13) (y := mX6_doPass) dX6_doPass_13 rfl ?_ | refine wa_aload_nq (pc := 13) (y := mX6_doPass) dX6_doPass_13 rfl ?_
      refine wa_getf (pc := 14) (y := mX6_doPass) (k := 5) 0 dX6_doPass_14 mH_o rfl q2643 (Or.inl rfl) (Nat.le_of_ble_eq_true rfl) (by rfl) ?_
      refine wa_iconst (pc := 17) (y := mX6_doPass) (Int32.ofNat 5) dX6_doPass_17 rfl ?_
      refine wa_ialoadN (pc := 18) (y := mX6_doPass) dX6_doPass_18 mH_1 (by omega) ?_
      refine wa_iload_n (pc := 19) (y := mX6_doPass) dX6_doPass_19 rfl ?_
      first | with_reducible refine wa_iaddN (pc := 20) (y := mX6_doPass) dX6_doPass_20 ?_ | refine wa_iadd (pc := 20) (y := mX6_doPass) dX6_doPass_20 ?_
      refine wa_ldc (pc := 21) (y := mX6_doPass) dX6_doPass_21 q2945 ?_
      refine wa_icmp_le (pc := 23) 28 dX6_doPass_23 rfl (fun hb23 => ?_) (fun hb23 => absurd (Int32.not_lt.mp e2) hb23)
      refine wa_iconst (pc := 28) (y := mX6_doPass) (Int32.ofNat 0) dX6_doPass_28 rfl ?_
      refine wa_istore_n (pc := 29) (y := mX6_doPass) dX6_doPass_29 (Nat.le_of_ble_eq_true rfl) rfl ?_
      change WA _ _ _ _ (List.set _ 2 _) _ _ _
      simp only [List.set_cons_zero, List.set_cons_succ]
      exact lp (u t) 0 _ (by omega)
end MGO
