/-! ===== CueStackModel: doGive, takeHeld, doRemove ===== -/
def dGi (f : Nat → Int32) (σ : MS) (cue : Int32) (p c : Nat) (lev part : Int32) (b : Bool) : Nat × (Nat → Int32) × MS :=
  if 0 < (gvH f (σ.1 8) cue p c lev part b).1 then ((gvH f (σ.1 8) cue p c lev part b).1, σ.1 1, mV (mA σ 8 (gvH f (σ.1 8) cue p c lev part b).2.2) 6 (Int32.ofNat (gvH f (σ.1 8) cue p c lev part b).1))
  else (0, (gvH f (σ.1 8) cue p c lev part b).2.1, mA σ 8 (gvH f (σ.1 8) cue p c lev part b).2.2)
def tkH (f old : Nat → Int32) (cue : Int32) (p c : Nat) (b : Bool) : Nat × (Nat → Int32) × (Nat → Int32) :=
  if f (18 + 12 * p + 3) = 1 then (1, f, old) else match gv f cue (Int32.ofNat c) with
  | none => (3, f, old)
  | some k => if b then ((hdF (klF f old (12 * u (f 0))) (p + 1) (p + 1) (tkF f k)).1, (hdF (klF f old (12 * u (f 0))) (p + 1) (p + 1) (tkF f k)).2, klF f old (12 * u (f 0))) else (0, tkF f k, klF f old (12 * u (f 0)))
def rmg (cue : Int32) : Nat → (Nat → Int32) → (Nat → Int32)
  | 0, f => f
  | k + 1, f => if f (162 + 4 * k) = cue then rmg cue k (tkF f k) else rmg cue k f
def rcF (f : Nat → Int32) (p : Nat) : Nat → Int32 := cpF (upd f 0 (Int32.ofNat (u (f 0) - 1))) (upd f 0 (Int32.ofNat (u (f 0) - 1))) (18 + 12 * (p + 1)) (18 + 12 * p) (12 * (u (f 0) - 1 - p))
theorem ite12 (b : Bool) : (if b = true then 1 else 2 : Nat) ≤ 2 := by cases b <;> decide
/-- one less -/
def dn (k : Nat) : Int32 := Int32.ofNat k - 1
theorem dn_s (k : Nat) : dn (k + 1) = Int32.ofNat k := iN_sub (a := k + 1) (b := 1) (by omega)
theorem dn_i (k : Nat) : dn (k + 1) + -1 = dn k := by rw [dn_s]; unfold dn; rw [Int32.sub_eq_add_neg]
theorem hdg_le {lev : Nat → Int32} {p was : Nat} : ∀ {t c : Nat} {f : Nat → Int32}, (hdg lev p was t c f).1 ≤ 2
  | 0, _, _ => Nat.zero_le _
  | t + 1, c, f => by
    unfold hdg
    split
    · split
      · exact Nat.le_succ _
      · split
        · exact Nat.le_refl _
        · exact hdg_le
    · exact hdg_le
theorem hdF_le {lev : Nat → Int32} {p was : Nat} {f : Nat → Int32} : (hdF lev p was f).1 ≤ 2 := by
  unfold hdF
  split
  · exact hdg_le
  · exact Nat.zero_le _
theorem gvH_le {f old : Nat → Int32} {cue : Int32} {p c : Nat} {lev part : Int32} {b : Bool} : (gvH f old cue p c lev part b).1 ≤ 2 := by
  unfold gvH
  split
  · exact Nat.le_succ _
  · split
    · exact ite12 _
    · split
      · exact hdF_le
      · exact Nat.zero_le _
theorem tkH_le {f old : Nat → Int32} {cue : Int32} {p c : Nat} {b : Bool} : (tkH f old cue p c b).1 ≤ 3 := by
  unfold tkH
  split
  · show 1 ≤ 3; omega
  · split
    · exact Nat.le_refl _
    · split
      · exact Nat.le_succ_of_le hdF_le
      · exact Nat.zero_le _
theorem iN_pos {a : Nat} (h : a < 2147483648) : Int32.ofNat a ≤ 0 ↔ a = 0 := by
  rw [show (0 : Int32) = Int32.ofNat 0 from rfl, iN_le h (by omega)]
  omega
def dRm (f : Nat → Int32) (σ : MS) (cue : Int32) (b : Bool) : Nat × (Nat → Int32) × MS := match pl f cue with
  | none => (1, f, σ)
  | some p => if f (18 + 12 * p + 3) = 1 then (2, σ.1 1, mV σ 6 (Int32.ofNat 1)) else
    if b then
      if 0 < (hdF (klF f (σ.1 8) (12 * u (f 0))) p (p + 1) (rcF (rmg cue (u (f 1)) f) p)).1 then (2, σ.1 1, mV (mA σ 8 (klF f (σ.1 8) (12 * u (f 0)))) 6 (Int32.ofNat (hdF (klF f (σ.1 8) (12 * u (f 0))) p (p + 1) (rcF (rmg cue (u (f 1)) f) p)).1))
      else (0, (hdF (klF f (σ.1 8) (12 * u (f 0))) p (p + 1) (rcF (rmg cue (u (f 1)) f) p)).2, mA σ 8 (klF f (σ.1 8) (12 * u (f 0))))
    else (0, rcF (rmg cue (u (f 1)) f) p, mA σ 8 (klF f (σ.1 8) (12 * u (f 0))))
/-! removing (plain) -/
theorem rmg_lo {cue : Int32} {j : Nat} (h1 : j < 162) (h2 : j ≠ 1) : ∀ {k : Nat} {f : Nat → Int32}, rmg cue k f j = f j
  | 0, _ => rfl
  | k + 1, f => by
    unfold rmg
    split
    · rw [rmg_lo h1 h2, tkF_lo (by omega) h2]
    · exact rmg_lo h1 h2
theorem rmg_inv {cue : Int32} : ∀ {k : Nat} {f : Nat → Int32}, Inv f → k ≤ u (f 1) → (∀ i, k ≤ i → i < u (f 1) → f (162 + 4 * i) ≠ cue) → Inv (rmg cue k f) ∧ ∀ i, i < u (rmg cue k f 1) → rmg cue k f (162 + 4 * i) ≠ cue
  | 0, f, hI, _, hr => ⟨hI, fun i hi => hr i (Nat.zero_le _) hi⟩
  | k + 1, f, hI, hk, hr => by
    have hi := hI.2.1
    unfold rmg
    split
    · rename_i e
      have n1 := tkF_1 (f := f) (k := k) hi
      refine rmg_inv (inv_tk hI (by omega)) (by omega) fun i h1 h2 => ?_
      rw [n1] at h2
      have := tkF_at (f := f) (k := k) (i := i) (r := 0) (by omega) h2
      rw [Nat.add_zero] at this
      rw [this, if_neg (by omega)]
      exact hr (i + 1) (by omega) (by omega)
    · rename_i e
      refine rmg_inv hI (by omega) fun i h1 h2 => ?_
      by_cases e2 : i = k
      · rw [e2]; exact e
      · exact hr i (by omega) h2
theorem rcF_hi {f : Nat → Int32} {p j : Nat} (hn : u (f 0) ≤ 12) (h : 162 ≤ j ∨ 0 < j ∧ j < 18) : rcF f p j = f j := by
  unfold rcF cpF
  rw [if_neg (by omega), upd_o _ _ (by omega)]
theorem rcF_0 {f : Nat → Int32} {p : Nat} (hn : u (f 0) ≤ 12) : u (rcF f p 0) = u (f 0) - 1 := by
  unfold rcF cpF
  rw [if_neg (by omega), upd_s, u_of (by omega)]
theorem rcF_at {f : Nat → Int32} {p k r : Nat} (hr : r < 12) (hk : k < u (f 0) - 1) : rcF f p (18 + 12 * k + r) = if k < p then f (18 + 12 * k + r) else f (18 + 12 * (k + 1) + r) := by
  by_cases e : k < p
  · rw [if_pos e]
    unfold rcF cpF
    rw [if_neg (by omega), upd_o _ _ (by omega)]
  · rw [if_neg e]
    unfold rcF cpF
    rw [if_pos (by omega), upd_o _ _ (by omega)]
    congr 1
    omega
theorem inv_rc {f : Nat → Int32} {p : Nat} (hI : Inv f) (hp : p < u (f 0)) (hno : ∀ i, i < u (f 1) → f (162 + 4 * i) ≠ f (18 + 12 * p)) : Inv (rcF f p) := by
  obtain ⟨h1, h2, h3, h4, h5, h6⟩ := hI
  have n0 := rcF_0 (f := f) (p := p) h1
  have l1 : rcF f p 1 = f 1 := rcF_hi h1 (by omega)
  have li : ∀ i r, rcF f p (162 + 4 * i + r) = f (162 + 4 * i + r) := fun i r => rcF_hi h1 (by omega)
  have li0 : ∀ i, rcF f p (162 + 4 * i) = f (162 + 4 * i) := fun i => rcF_hi h1 (by omega)
  have hq : ∀ i, i < u (f 0) - 1 → ∃ i2, i2 < u (f 0) ∧ i2 = (if i < p then i else i + 1) ∧ ∀ r, r < 12 → rcF f p (18 + 12 * i + r) = f (18 + 12 * i2 + r) := fun i hi => by
    by_cases e : i < p
    · exact ⟨i, by omega, by rw [if_pos e], fun r hr => by rw [rcF_at hr hi, if_pos e]⟩
    · exact ⟨i + 1, by omega, by rw [if_neg e], fun r hr => by rw [rcF_at hr hi, if_neg e]⟩
  refine ⟨by rw [n0]; omega, by rw [l1]; exact h2, fun i hi => ?_, fun i j hij hj => ?_, fun k hk => ?_, fun j k hjk hk => ?_⟩
  · rw [l1] at hi
    obtain ⟨a, b, q, q1, q2⟩ := h3 i hi
    rw [li, li, li0, n0]
    refine ⟨a, b, ?_⟩
    have hne : q ≠ p := fun e => hno i hi (by rw [← q2, e])
    rcases Nat.lt_or_ge q p with x | x
    · refine ⟨q, by omega, ?_⟩
      have := rcF_at (f := f) (p := p) (k := q) (r := 0) (by omega) (by omega)
      rw [Nat.add_zero] at this
      rw [this, if_pos x]
      exact q2
    · refine ⟨q - 1, by omega, ?_⟩
      have := rcF_at (f := f) (p := p) (k := q - 1) (r := 0) (by omega) (by omega)
      rw [Nat.add_zero] at this
      rw [this, if_neg (by omega), show q - 1 + 1 = q by omega, Nat.add_zero]
      exact q2
  · rw [l1] at hj
    rw [li0, li0, li, li]
    exact h4 i j hij hj
  · rw [n0] at hk
    obtain ⟨k2, x1, -, x2⟩ := hq k hk
    have y := x2 0 (by omega)
    rw [Nat.add_zero, Nat.add_zero] at y
    rw [y, x2 1 (by omega), x2 2 (by omega), x2 3 (by omega)]
    exact h5 k2 x1
  · rw [n0] at hk
    obtain ⟨k2, x1, x3, x2⟩ := hq k hk
    obtain ⟨j2, y1, y3, y2⟩ := hq j (by omega)
    have a := x2 0 (by omega)
    have b := y2 0 (by omega)
    rw [Nat.add_zero, Nat.add_zero] at a b
    rw [a, b]
    refine h6 j2 k2 ?_ x1
    rw [x3, y3]
    split <;> split <;> omega
theorem hdg_inv {lev : Nat → Int32} {p was : Nat} : ∀ {t c : Nat} {f : Nat → Int32}, c + t ≤ 12 → Inv f → p < u (f 0) → Inv (hdg lev p was t c f).2
  | 0, _, _, _, hI, _ => hI
  | t + 1, c, f, hc, hI, hp => by
    unfold hdg
    split
    · split
      · exact hI
      · split
        · exact hI
        · refine hdg_inv (by omega) (inv_gi hI (by omega) (by decide) ⟨p, hp, rfl⟩ fun _ => ?_) (by rw [giF_lo (by omega) (by omega)]; exact hp)
          have := hI.2.1
          omega
    · exact hdg_inv (by omega) hI hp
theorem hdF_inv {lev : Nat → Int32} {p was : Nat} {f : Nat → Int32} (hI : Inv f) : Inv (hdF lev p was f).2 := by
  unfold hdF
  split
  · rename_i e
    exact hdg_inv (by omega) hI e.1
  · exact hI
theorem gvH_inv {f old : Nat → Int32} {cue : Int32} {p c : Nat} {lev part : Int32} {b : Bool} (hI : Inv f) (hp : pl f cue = some p) (hc : c < 12) (hpt : u part < 4) : Inv (gvH f old cue p c lev part b).2.1 := by
  unfold gvH
  split
  · exact hI
  · split
    · exact hI
    · rename_i e2
      have hI2 : Inv (giF f cue (Int32.ofNat c) lev part) := inv_gi hI hc hpt ⟨p, pl_some hp⟩ fun q => by
        have := mt (fun x => (⟨x, q⟩ : u (f 1) = 60 ∧ gv f cue (Int32.ofNat c) = none)) e2
        have := hI.2.1
        omega
      split
      · exact hdF_inv hI2
      · exact hI2
theorem tkH_inv {f old : Nat → Int32} {cue : Int32} {p c : Nat} {b : Bool} (hI : Inv f) : Inv (tkH f old cue p c b).2.1 := by
  unfold tkH
  split
  · exact hI
  · split
    · exact hI
    · rename_i e
      have hI2 := inv_tk hI (gv_some e).1
      split
      · exact hdF_inv hI2
      · exact hI2
section MTAKE
variable {G : GG} {d : Nat} {h : AH} {m : Nat} {f : Nat → Int32} {σ : MS}
theorem s_X6_doGive {cue lev part : Int32} {p c : Nat} {b : Bool} (hd : 5 ≤ d) (hI : Inv f) (hp : pl f cue = some p) (hc : c < 12) (hpt : u part < 4) : MA G d mX6_doGive [.ref m, .int cue, .int (Int32.ofNat c), .int lev, .int part, .int (bI b)] (mH h m f σ) (fun r h' => r = .inl (some (.int (Int32.ofNat (dGi f σ cue p c lev part b).1))) ∧ h' = mH h m (dGi f σ cue p c lev part b).2.1 (dGi f σ cue p c lev part b).2.2) := by
  have hle := gvH_le (f := f) (old := σ.1 8) (cue := cue) (p := p) (c := c) (lev := lev) (part := part) (b := b)
  show WA _ _ _ 0 [.ref m, .int _, .int _, .int _, .int _, .int _, .retAddr 0] [] _ _
  by_cases e : 0 < (gvH f (σ.1 8) cue p c lev part b).1
  · have ed : dGi f σ cue p c lev part b = _ := if_pos e
    rw [ed]
    first | refine wa_aload_n (pc := 0) (y := mX6_doGive) dX6_doGive_0 rfl ?_ | refine wa_aload_nN (pc := 0) (y := mX6_doGive) dX6_doGive_0 rfl ?_ | refine wa_aload_nq (pc := 0) (y := mX6_doGive) dX6_doGive_0 rfl ?_
    refine wa_iload_n (pc := 1) (y := mX6_doGive) dX6_doGive_1 rfl ?_
    refine wa_iload_n (pc := 2) (y := mX6_doGive) dX6_doGive_2 rfl ?_
    refine wa_iload_n (pc := 3) (y := mX6_doGive) dX6_doGive_3 rfl ?_
    refine wa_iload (pc := 4) (y := mX6_doGive) dX6_doGive_4 rfl ?_
    refine wa_iload (pc := 6) (y := mX6_doGive) dX6_doGive_6 rfl ?_
    refine wa_callV (pc := 8) (s_X6_giveHeld (d := d - 1) (by omega) hI hp hc hpt) dX6_doGive_8 okX6_giveHeld q2821 q2823 qs55 mH_o rfl rfl rfl (Nat.le_of_ble_eq_true rfl) (Nat.le_of_ble_eq_true rfl) (by omega) ?_
    rintro _ _ - - ⟨rfl, rfl⟩
    refine aft_v (pc2 := 11) ?_ rfl
    refine wa_istore (pc := 11) (y := mX6_doGive) dX6_doGive_11 (Nat.le_of_ble_eq_true rfl) rfl ?_
    simp only [List.set_cons_zero, List.set_cons_succ]
    refine wa_iload (pc := 13) (y := mX6_doGive) dX6_doGive_13 rfl ?_
    refine wa_if_le (pc := 15) 27 dX6_doGive_15 rfl (fun hb15 => absurd ((iN_pos (by omega)).mp hb15) (by omega)) (fun hb15 => ?_)
    first | refine wa_aload_n (pc := 18) (y := mX6_doGive) dX6_doGive_18 rfl ?_ | refine wa_aload_nN (pc := 18) (y := mX6_doGive) dX6_doGive_18 rfl ?_ | refine wa_aload_nq (pc := 18) (y := mX6_doGive) dX6_doGive_18 rfl ?_
    refine wa_iload (pc := 19) (y := mX6_doGive) dX6_doGive_19 rfl ?_
    refine wa_callV (pc := 21) (s_X6_refuse (d := d - 1) (by omega)) dX6_doGive_21 okX6_refuse q2837 q2839 qs59 mH_o rfl rfl rfl (Nat.le_of_ble_eq_true rfl) (Nat.le_of_ble_eq_true rfl) (by omega) ?_
    rintro _ _ - - ⟨rfl, rfl⟩
    refine aft_v (pc2 := 24) ?_ rfl
    refine wa_goto (pc := 24) (y := mX6_doGive) 28 dX6_doGive_24 rfl ?_
    exact wa_ireturn (pc := 28) (y := mX6_doGive) .int dX6_doGive_28 rfl rfl ⟨rfl, rfl⟩
  · have ed : dGi f σ cue p c lev part b = _ := if_neg e
    rw [ed]
    first | refine wa_aload_n (pc := 0) (y := mX6_doGive) dX6_doGive_0 rfl ?_ | refine wa_aload_nN (pc := 0) (y := mX6_doGive) dX6_doGive_0 rfl ?_ | refine wa_aload_nq (pc := 0) (y := mX6_doGive) dX6_doGive_0 rfl ?_
    refine wa_iload_n (pc := 1) (y := mX6_doGive) dX6_doGive_1 rfl ?_
    refine wa_iload_n (pc := 2) (y := mX6_doGive) dX6_doGive_2 rfl ?_
    refine wa_iload_n (pc := 3) (y := mX6_doGive) dX6_doGive_3 rfl ?_
    refine wa_iload (pc := 4) (y := mX6_doGive) dX6_doGive_4 rfl ?_
    refine wa_iload (pc := 6) (y := mX6_doGive) dX6_doGive_6 rfl ?_
    refine wa_callV (pc := 8) (s_X6_giveHeld (d := d - 1) (by omega) hI hp hc hpt) dX6_doGive_8 okX6_giveHeld q2821 q2823 qs55 mH_o rfl rfl rfl (Nat.le_of_ble_eq_true rfl) (Nat.le_of_ble_eq_true rfl) (by omega) ?_
    rintro _ _ - - ⟨rfl, rfl⟩
    refine aft_v (pc2 := 11) ?_ rfl
    refine wa_istore (pc := 11) (y := mX6_doGive) dX6_doGive_11 (Nat.le_of_ble_eq_true rfl) rfl ?_
    simp only [List.set_cons_zero, List.set_cons_succ]
    refine wa_iload (pc := 13) (y := mX6_doGive) dX6_doGive_13 rfl ?_
    refine wa_if_le (pc := 15) 27 dX6_doGive_15 rfl (fun hb15 => ?_) (fun hb15 => absurd ((iN_pos (by omega)).mpr (by omega)) hb15)
    refine wa_iconst (pc := 27) (y := mX6_doGive) (Int32.ofNat 0) dX6_doGive_27 rfl ?_
    exact wa_ireturn (pc := 28) (y := mX6_doGive) .int dX6_doGive_28 rfl rfl ⟨rfl, rfl⟩
theorem s_X6_takeHeld {cue : Int32} {p c : Nat} {b : Bool} (hd : 4 ≤ d) (hI : Inv f) (hp : pl f cue = some p) : MA G d mX6_takeHeld [.ref m, .int cue, .int (Int32.ofNat c), .int (bI b)] (mH h m f σ) (fun r h' => r = .inl (some (.int (Int32.ofNat (tkH f (σ.1 8) cue p c b).1))) ∧ h' = mH h m (tkH f (σ.1 8) cue p c b).2.1 (mA σ 8 (tkH f (σ.1 8) cue p c b).2.2)) := by
  have hn := hI.1
  have hi := hI.2.1
  have hps := pl_some hp
  show WA _ _ _ 0 [.ref m, .int _, .int _, .int _, .retAddr 0, .retAddr 0] [] _ _
  cases eg : gv f cue (Int32.ofNat c) with
  | none =>
    by_cases e1 : f (18 + 12 * p + 3) = 1
    · rw [show tkH f (σ.1 8) cue p c b = (1, f, σ.1 8) from if_pos e1, mA_id]
      first | refine wa_aload_n (pc := 0) (y := mX6_takeHeld) dX6_takeHeld_0 rfl ?_ | refine wa_aload_nN (pc := 0) (y := mX6_takeHeld) dX6_takeHeld_0 rfl ?_ | refine wa_aload_nq (pc := 0) (y := mX6_takeHeld) dX6_takeHeld_0 rfl ?_
      refine wa_iload_n (pc := 1) (y := mX6_takeHeld) dX6_takeHeld_1 rfl ?_
      refine wa_callV (pc := 2) (s_X6_placeOf (d := d - 1) (by omega) hI) dX6_takeHeld_2 okX6_placeOf q2723 q2725 qs42 mH_o rfl rfl rfl (Nat.le_of_ble_eq_true rfl) (Nat.le_of_ble_eq_true rfl) (by omega) ?_
      rintro _ _ - - ⟨rfl, rfl⟩
      refine aft_v (pc2 := 5) ?_ rfl
      rw [hp, oI_some]
      refine wa_istore (pc := 5) (y := mX6_takeHeld) dX6_takeHeld_5 (Nat.le_of_ble_eq_true rfl) rfl ?_
      simp only [List.set_cons_zero, List.set_cons_succ]
      first | refine wa_aload_n (pc := 7) (y := mX6_takeHeld) dX6_takeHeld_7 rfl ?_ | refine wa_aload_nN (pc := 7) (y := mX6_takeHeld) dX6_takeHeld_7 rfl ?_ | refine wa_aload_nq (pc := 7) (y := mX6_takeHeld) dX6_takeHeld_7 rfl ?_
      refine wa_iload_n (pc := 8) (y := mX6_takeHeld) dX6_takeHeld_8 rfl ?_
      refine wa_iload_n (pc := 9) (y := mX6_takeHeld) dX6_takeHeld_9 rfl ?_
      refine wa_callV (pc := 10) (s_X6_given (d := d - 1) hI) dX6_takeHeld_10 okX6_given q2758 q2760 qs47 mH_o rfl rfl rfl (Nat.le_of_ble_eq_true rfl) (Nat.le_of_ble_eq_true rfl) (by omega) ?_
      rintro _ _ - - ⟨rfl, rfl⟩
      refine aft_v (pc2 := 13) ?_ rfl
      rw [eg, oI_none]
      refine wa_istore (pc := 13) (y := mX6_takeHeld) dX6_takeHeld_13 (Nat.le_of_ble_eq_true rfl) rfl ?_
      simp only [List.set_cons_zero, List.set_cons_succ]
      first | refine wa_aload_n (pc := 15) (y := mX6_takeHeld) dX6_takeHeld_15 rfl ?_ | refine wa_aload_nN (pc := 15) (y := mX6_takeHeld) dX6_takeHeld_15 rfl ?_ | refine wa_aload_nq (pc := 15) (y := mX6_takeHeld) dX6_takeHeld_15 rfl ?_
      refine wa_getf (pc := 16) (y := mX6_takeHeld) (k := 5) 0 dX6_takeHeld_16 mH_o rfl q2643 (Or.inl rfl) (Nat.le_of_ble_eq_true rfl) (by rfl) ?_
      refine wa_iload (pc := 19) (y := mX6_takeHeld) dX6_takeHeld_19 rfl ?_
      refine wa_callS (pc := 21) (s_X6_at (d := d - 1)) dX6_takeHeld_21 okX6_at q2727 q2728 rfl rfl (Nat.le_of_ble_eq_true rfl) (Nat.le_of_ble_eq_true rfl) (by omega) ?_
      rintro _ _ - - ⟨rfl, rfl⟩
      refine aft_v (pc2 := 24) ?_ rfl
      refine wa_iconst (pc := 24) (y := mX6_takeHeld) (Int32.ofNat 3) dX6_takeHeld_24 rfl ?_
      first | with_reducible refine wa_iaddN (pc := 25) (y := mX6_takeHeld) dX6_takeHeld_25 ?_ | refine wa_iadd (pc := 25) (y := mX6_takeHeld) dX6_takeHeld_25 ?_
      refine wa_ialoadN (pc := 26) (y := mX6_takeHeld) dX6_takeHeld_26 mH_1 (by omega) ?_
      refine wa_iconst (pc := 27) (y := mX6_takeHeld) (Int32.ofNat 1) dX6_takeHeld_27 rfl ?_
      refine wa_icmp_ne (pc := 28) 33 dX6_takeHeld_28 rfl (fun hb28 => absurd e1 hb28) (fun hb28 => ?_)
      refine wa_iconst (pc := 31) (y := mX6_takeHeld) (Int32.ofNat 1) dX6_takeHeld_31 rfl ?_
      exact wa_ireturn (pc := 32) (y := mX6_takeHeld) .int dX6_takeHeld_32 rfl rfl ⟨rfl, rfl⟩
    · rw [show tkH f (σ.1 8) cue p c b = (3, f, σ.1 8) by unfold tkH; rw [if_neg e1, eg], mA_id]
      first | refine wa_aload_n (pc := 0) (y := mX6_takeHeld) dX6_takeHeld_0 rfl ?_ | refine wa_aload_nN (pc := 0) (y := mX6_takeHeld) dX6_takeHeld_0 rfl ?_ | refine wa_aload_nq (pc := 0) (y := mX6_takeHeld) dX6_takeHeld_0 rfl ?_
      refine wa_iload_n (pc := 1) (y := mX6_takeHeld) dX6_takeHeld_1 rfl ?_
      refine wa_callV (pc := 2) (s_X6_placeOf (d := d - 1) (by omega) hI) dX6_takeHeld_2 okX6_placeOf q2723 q2725 qs42 mH_o rfl rfl rfl (Nat.le_of_ble_eq_true rfl) (Nat.le_of_ble_eq_true rfl) (by omega) ?_
      rintro _ _ - - ⟨rfl, rfl⟩
      refine aft_v (pc2 := 5) ?_ rfl
      rw [hp, oI_some]
      refine wa_istore (pc := 5) (y := mX6_takeHeld) dX6_takeHeld_5 (Nat.le_of_ble_eq_true rfl) rfl ?_
      simp only [List.set_cons_zero, List.set_cons_succ]
      first | refine wa_aload_n (pc := 7) (y := mX6_takeHeld) dX6_takeHeld_7 rfl ?_ | refine wa_aload_nN (pc := 7) (y := mX6_takeHeld) dX6_takeHeld_7 rfl ?_ | refine wa_aload_nq (pc := 7) (y := mX6_takeHeld) dX6_takeHeld_7 rfl ?_
      refine wa_iload_n (pc := 8) (y := mX6_takeHeld) dX6_takeHeld_8 rfl ?_
      refine wa_iload_n (pc := 9) (y := mX6_takeHeld) dX6_takeHeld_9 rfl ?_
      refine wa_callV (pc := 10) (s_X6_given (d := d - 1) hI) dX6_takeHeld_10 okX6_given q2758 q2760 qs47 mH_o rfl rfl rfl (Nat.le_of_ble_eq_true rfl) (Nat.le_of_ble_eq_true rfl) (by omega) ?_
      rintro _ _ - - ⟨rfl, rfl⟩
      refine aft_v (pc2 := 13) ?_ rfl
      rw [eg, oI_none]
      refine wa_istore (pc := 13) (y := mX6_takeHeld) dX6_takeHeld_13 (Nat.le_of_ble_eq_true rfl) rfl ?_
      simp only [List.set_cons_zero, List.set_cons_succ]
      first | refine wa_aload_n (pc := 15) (y := mX6_takeHeld) dX6_takeHeld_15 rfl ?_ | refine wa_aload_nN (pc := 15) (y := mX6_takeHeld) dX6_takeHeld_15 rfl ?_ | refine wa_aload_nq (pc := 15) (y := mX6_takeHeld) dX6_takeHeld_15 rfl ?_
      refine wa_getf (pc := 16) (y := mX6_takeHeld) (k := 5) 0 dX6_takeHeld_16 mH_o rfl q2643 (Or.inl rfl) (Nat.le_of_ble_eq_true rfl) (by rfl) ?_
      refine wa_iload (pc := 19) (y := mX6_takeHeld) dX6_takeHeld_19 rfl ?_
      refine wa_callS (pc := 21) (s_X6_at (d := d - 1)) dX6_takeHeld_21 okX6_at q2727 q2728 rfl rfl (Nat.le_of_ble_eq_true rfl) (Nat.le_of_ble_eq_true rfl) (by omega) ?_
      rintro _ _ - - ⟨rfl, rfl⟩
      refine aft_v (pc2 := 24) ?_ rfl
      refine wa_iconst (pc := 24) (y := mX6_takeHeld) (Int32.ofNat 3) dX6_takeHeld_24 rfl ?_
      first | with_reducible refine wa_iaddN (pc := 25) (y := mX6_takeHeld) dX6_takeHeld_25 ?_ | refine wa_iadd (pc := 25) (y := mX6_takeHeld) dX6_takeHeld_25 ?_
      refine wa_ialoadN (pc := 26) (y := mX6_takeHeld) dX6_takeHeld_26 mH_1 (by omega) ?_
      refine wa_iconst (pc := 27) (y := mX6_takeHeld) (Int32.ofNat 1) dX6_takeHeld_27 rfl ?_
      refine wa_icmp_ne (pc := 28) 33 dX6_takeHeld_28 rfl (fun hb28 => ?_) (fun hb28 => absurd hb28 e1)
      refine wa_iload (pc := 33) (y := mX6_takeHeld) dX6_takeHeld_33 rfl ?_
      refine wa_if_ge (pc := 35) 40 dX6_takeHeld_35 rfl (fun hb35 => absurd hb35 (by decide)) (fun hb35 => ?_)
      refine wa_iconst (pc := 38) (y := mX6_takeHeld) (Int32.ofNat 3) dX6_takeHeld_38 rfl ?_
      exact wa_ireturn (pc := 39) (y := mX6_takeHeld) .int dX6_takeHeld_39 rfl rfl ⟨rfl, rfl⟩
  | some k =>
    have hk := (gv_some eg).1
    have n1 := tkF_1 (f := f) (k := k) hi
    have l0 : tkF f k 0 = f 0 := tkF_lo (by omega) (by omega)
    have hI2 := inv_tk hI hk
    by_cases e1 : f (18 + 12 * p + 3) = 1
    · rw [show tkH f (σ.1 8) cue p c b = (1, f, σ.1 8) from if_pos e1, mA_id]
      first | refine wa_aload_n (pc := 0) (y := mX6_takeHeld) dX6_takeHeld_0 rfl ?_ | refine wa_aload_nN (pc := 0) (y := mX6_takeHeld) dX6_takeHeld_0 rfl ?_ | refine wa_aload_nq (pc := 0) (y := mX6_takeHeld) dX6_takeHeld_0 rfl ?_
      refine wa_iload_n (pc := 1) (y := mX6_takeHeld) dX6_takeHeld_1 rfl ?_
      refine wa_callV (pc := 2) (s_X6_placeOf (d := d - 1) (by omega) hI) dX6_takeHeld_2 okX6_placeOf q2723 q2725 qs42 mH_o rfl rfl rfl (Nat.le_of_ble_eq_true rfl) (Nat.le_of_ble_eq_true rfl) (by omega) ?_
      rintro _ _ - - ⟨rfl, rfl⟩
      refine aft_v (pc2 := 5) ?_ rfl
      rw [hp, oI_some]
      refine wa_istore (pc := 5) (y := mX6_takeHeld) dX6_takeHeld_5 (Nat.le_of_ble_eq_true rfl) rfl ?_
      simp only [List.set_cons_zero, List.set_cons_succ]
      first | refine wa_aload_n (pc := 7) (y := mX6_takeHeld) dX6_takeHeld_7 rfl ?_ | refine wa_aload_nN (pc := 7) (y := mX6_takeHeld) dX6_takeHeld_7 rfl ?_ | refine wa_aload_nq (pc := 7) (y := mX6_takeHeld) dX6_takeHeld_7 rfl ?_
      refine wa_iload_n (pc := 8) (y := mX6_takeHeld) dX6_takeHeld_8 rfl ?_
      refine wa_iload_n (pc := 9) (y := mX6_takeHeld) dX6_takeHeld_9 rfl ?_
      refine wa_callV (pc := 10) (s_X6_given (d := d - 1) hI) dX6_takeHeld_10 okX6_given q2758 q2760 qs47 mH_o rfl rfl rfl (Nat.le_of_ble_eq_true rfl) (Nat.le_of_ble_eq_true rfl) (by omega) ?_
      rintro _ _ - - ⟨rfl, rfl⟩
      refine aft_v (pc2 := 13) ?_ rfl
      rw [eg, oI_some]
      refine wa_istore (pc := 13) (y := mX6_takeHeld) dX6_takeHeld_13 (Nat.le_of_ble_eq_true rfl) rfl ?_
      simp only [List.set_cons_zero, List.set_cons_succ]
      first | refine wa_aload_n (pc := 15) (y := mX6_takeHeld) dX6_takeHeld_15 rfl ?_ | refine wa_aload_nN (pc := 15) (y := mX6_takeHeld) dX6_takeHeld_15 rfl ?_ | refine wa_aload_nq (pc := 15) (y := mX6_takeHeld) dX6_takeHeld_15 rfl ?_
      refine wa_getf (pc := 16) (y := mX6_takeHeld) (k := 5) 0 dX6_takeHeld_16 mH_o rfl q2643 (Or.inl rfl) (Nat.le_of_ble_eq_true rfl) (by rfl) ?_
      refine wa_iload (pc := 19) (y := mX6_takeHeld) dX6_takeHeld_19 rfl ?_
      refine wa_callS (pc := 21) (s_X6_at (d := d - 1)) dX6_takeHeld_21 okX6_at q2727 q2728 rfl rfl (Nat.le_of_ble_eq_true rfl) (Nat.le_of_ble_eq_true rfl) (by omega) ?_
      rintro _ _ - - ⟨rfl, rfl⟩
      refine aft_v (pc2 := 24) ?_ rfl
      refine wa_iconst (pc := 24) (y := mX6_takeHeld) (Int32.ofNat 3) dX6_takeHeld_24 rfl ?_
      first | with_reducible refine wa_iaddN (pc := 25) (y := mX6_takeHeld) dX6_takeHeld_25 ?_ | refine wa_iadd (pc := 25) (y := mX6_takeHeld) dX6_takeHeld_25 ?_
      refine wa_ialoadN (pc := 26) (y := mX6_takeHeld) dX6_takeHeld_26 mH_1 (by omega) ?_
      refine wa_iconst (pc := 27) (y := mX6_takeHeld) (Int32.ofNat 1) dX6_takeHeld_27 rfl ?_
      refine wa_icmp_ne (pc := 28) 33 dX6_takeHeld_28 rfl (fun hb28 => absurd e1 hb28) (fun hb28 => ?_)
      refine wa_iconst (pc := 31) (y := mX6_takeHeld) (Int32.ofNat 1) dX6_takeHeld_31 rfl ?_
      exact wa_ireturn (pc := 32) (y := mX6_takeHeld) .int dX6_takeHeld_32 rfl rfl ⟨rfl, rfl⟩
    · cases b with
      | false =>
        rw [show tkH f (σ.1 8) cue p c false = (0, tkF f k, klF f (σ.1 8) (12 * u (f 0))) by unfold tkH; rw [if_neg e1, eg]; rfl]
        first | refine wa_aload_n (pc := 0) (y := mX6_takeHeld) dX6_takeHeld_0 rfl ?_ | refine wa_aload_nN (pc := 0) (y := mX6_takeHeld) dX6_takeHeld_0 rfl ?_ | refine wa_aload_nq (pc := 0) (y := mX6_takeHeld) dX6_takeHeld_0 rfl ?_
        refine wa_iload_n (pc := 1) (y := mX6_takeHeld) dX6_takeHeld_1 rfl ?_
        refine wa_callV (pc := 2) (s_X6_placeOf (d := d - 1) (by omega) hI) dX6_takeHeld_2 okX6_placeOf q2723 q2725 qs42 mH_o rfl rfl rfl (Nat.le_of_ble_eq_true rfl) (Nat.le_of_ble_eq_true rfl) (by omega) ?_
        rintro _ _ - - ⟨rfl, rfl⟩
        refine aft_v (pc2 := 5) ?_ rfl
        rw [hp, oI_some]
        refine wa_istore (pc := 5) (y := mX6_takeHeld) dX6_takeHeld_5 (Nat.le_of_ble_eq_true rfl) rfl ?_
        simp only [List.set_cons_zero, List.set_cons_succ]
        first | refine wa_aload_n (pc := 7) (y := mX6_takeHeld) dX6_takeHeld_7 rfl ?_ | refine wa_aload_nN (pc := 7) (y := mX6_takeHeld) dX6_takeHeld_7 rfl ?_ | refine wa_aload_nq (pc := 7) (y := mX6_takeHeld) dX6_takeHeld_7 rfl ?_
        refine wa_iload_n (pc := 8) (y := mX6_takeHeld) dX6_takeHeld_8 rfl ?_
        refine wa_iload_n (pc := 9) (y := mX6_takeHeld) dX6_takeHeld_9 rfl ?_
        refine wa_callV (pc := 10) (s_X6_given (d := d - 1) hI) dX6_takeHeld_10 okX6_given q2758 q2760 qs47 mH_o rfl rfl rfl (Nat.le_of_ble_eq_true rfl) (Nat.le_of_ble_eq_true rfl) (by omega) ?_
        rintro _ _ - - ⟨rfl, rfl⟩
        refine aft_v (pc2 := 13) ?_ rfl
        rw [eg, oI_some]
        refine wa_istore (pc := 13) (y := mX6_takeHeld) dX6_takeHeld_13 (Nat.le_of_ble_eq_true rfl) rfl ?_
        simp only [List.set_cons_zero, List.set_cons_succ]
        first | refine wa_aload_n (pc := 15) (y := mX6_takeHeld) dX6_takeHeld_15 rfl ?_ | refine wa_aload_nN (pc := 15) (y := mX6_takeHeld) dX6_takeHeld_15 rfl ?_ | refine wa_aload_nq (pc := 15) (y := mX6_takeHeld) dX6_takeHeld_15 rfl ?_
        refine wa_getf (pc := 16) (y := mX6_takeHeld) (k := 5) 0 dX6_takeHeld_16 mH_o rfl q2643 (Or.inl rfl) (Nat.le_of_ble_eq_true rfl) (by rfl) ?_
        refine wa_iload (pc := 19) (y := mX6_takeHeld) dX6_takeHeld_19 rfl ?_
        refine wa_callS (pc := 21) (s_X6_at (d := d - 1)) dX6_takeHeld_21 okX6_at q2727 q2728 rfl rfl (Nat.le_of_ble_eq_true rfl) (Nat.le_of_ble_eq_true rfl) (by omega) ?_
        rintro _ _ - - ⟨rfl, rfl⟩
        refine aft_v (pc2 := 24) ?_ rfl
        refine wa_iconst (pc := 24) (y := mX6_takeHeld) (Int32.ofNat 3) dX6_takeHeld_24 rfl ?_
        first | with_reducible refine wa_iaddN (pc := 25) (y := mX6_takeHeld) dX6_takeHeld_25 ?_ | refine wa_iadd (pc := 25) (y := mX6_takeHeld) dX6_takeHeld_25 ?_
        refine wa_ialoadN (pc := 26) (y := mX6_takeHeld) dX6_takeHeld_26 mH_1 (by omega) ?_
        refine wa_iconst (pc := 27) (y := mX6_takeHeld) (Int32.ofNat 1) dX6_takeHeld_27 rfl ?_
        refine wa_icmp_ne (pc := 28) 33 dX6_takeHeld_28 rfl (fun hb28 => ?_) (fun hb28 => absurd hb28 e1)
        refine wa_iload (pc := 33) (y := mX6_takeHeld) dX6_takeHeld_33 rfl ?_
        refine wa_if_ge (pc := 35) 40 dX6_takeHeld_35 rfl (fun hb35 => ?_) (fun hb35 => absurd ((iN_le (a := 0) (by omega) (by omega)).mpr (by omega)) hb35)
        first | refine wa_aload_n (pc := 40) (y := mX6_takeHeld) dX6_takeHeld_40 rfl ?_ | refine wa_aload_nN (pc := 40) (y := mX6_takeHeld) dX6_takeHeld_40 rfl ?_ | refine wa_aload_nq (pc := 40) (y := mX6_takeHeld) dX6_takeHeld_40 rfl ?_
        refine wa_callV (pc := 41) (s_X6_keepLevels (d := d - 1) (by omega) hI) dX6_takeHeld_41 okX6_keepLevels q2750 q2752 qs45 mH_o rfl rfl rfl (Nat.le_of_ble_eq_true rfl) (Nat.le_of_ble_eq_true rfl) (by omega) ?_
        rintro _ _ - - ⟨rfl, rfl⟩
        refine aft_0 (pc2 := 44) ?_ rfl
        first | refine wa_aload_n (pc := 44) (y := mX6_takeHeld) dX6_takeHeld_44 rfl ?_ | refine wa_aload_nN (pc := 44) (y := mX6_takeHeld) dX6_takeHeld_44 rfl ?_ | refine wa_aload_nq (pc := 44) (y := mX6_takeHeld) dX6_takeHeld_44 rfl ?_
        refine wa_iload (pc := 45) (y := mX6_takeHeld) dX6_takeHeld_45 rfl ?_
        refine wa_callV (pc := 47) (s_X6_takeAway (d := d - 1) (by omega) hi hk) dX6_takeHeld_47 okX6_takeAway q2857 q2859 qs62 mH_o rfl rfl rfl (Nat.le_of_ble_eq_true rfl) (Nat.le_of_ble_eq_true rfl) (by omega) ?_
        rintro _ _ - - ⟨rfl, rfl⟩
        refine aft_0 (pc2 := 50) ?_ rfl
        refine wa_iload_n (pc := 50) (y := mX6_takeHeld) dX6_takeHeld_50 rfl ?_
        refine wa_if_eq (pc := 51) 69 dX6_takeHeld_51 rfl (fun hb51 => ?_) (fun hb51 => absurd rfl hb51)
        refine wa_iconst (pc := 69) (y := mX6_takeHeld) (Int32.ofNat 0) dX6_takeHeld_69 rfl ?_
        exact wa_ireturn (pc := 70) (y := mX6_takeHeld) .int dX6_takeHeld_70 rfl rfl ⟨rfl, rfl⟩
      | true =>
        rw [show tkH f (σ.1 8) cue p c true = ((hdF (klF f (σ.1 8) (12 * u (f 0))) (p + 1) (p + 1) (tkF f k)).1, (hdF (klF f (σ.1 8) (12 * u (f 0))) (p + 1) (p + 1) (tkF f k)).2, klF f (σ.1 8) (12 * u (f 0))) by unfold tkH; rw [if_neg e1, eg]; rfl]
        first | refine wa_aload_n (pc := 0) (y := mX6_takeHeld) dX6_takeHeld_0 rfl ?_ | refine wa_aload_nN (pc := 0) (y := mX6_takeHeld) dX6_takeHeld_0 rfl ?_ | refine wa_aload_nq (pc := 0) (y := mX6_takeHeld) dX6_takeHeld_0 rfl ?_
        refine wa_iload_n (pc := 1) (y := mX6_takeHeld) dX6_takeHeld_1 rfl ?_
        refine wa_callV (pc := 2) (s_X6_placeOf (d := d - 1) (by omega) hI) dX6_takeHeld_2 okX6_placeOf q2723 q2725 qs42 mH_o rfl rfl rfl (Nat.le_of_ble_eq_true rfl) (Nat.le_of_ble_eq_true rfl) (by omega) ?_
        rintro _ _ - - ⟨rfl, rfl⟩
        refine aft_v (pc2 := 5) ?_ rfl
        rw [hp, oI_some]
        refine wa_istore (pc := 5) (y := mX6_takeHeld) dX6_takeHeld_5 (Nat.le_of_ble_eq_true rfl) rfl ?_
        simp only [List.set_cons_zero, List.set_cons_succ]
        first | refine wa_aload_n (pc := 7) (y := mX6_takeHeld) dX6_takeHeld_7 rfl ?_ | refine wa_aload_nN (pc := 7) (y := mX6_takeHeld) dX6_takeHeld_7 rfl ?_ | refine wa_aload_nq (pc := 7) (y := mX6_takeHeld) dX6_takeHeld_7 rfl ?_
        refine wa_iload_n (pc := 8) (y := mX6_takeHeld) dX6_takeHeld_8 rfl ?_
        refine wa_iload_n (pc := 9) (y := mX6_takeHeld) dX6_takeHeld_9 rfl ?_
        refine wa_callV (pc := 10) (s_X6_given (d := d - 1) hI) dX6_takeHeld_10 okX6_given q2758 q2760 qs47 mH_o rfl rfl rfl (Nat.le_of_ble_eq_true rfl) (Nat.le_of_ble_eq_true rfl) (by omega) ?_
        rintro _ _ - - ⟨rfl, rfl⟩
        refine aft_v (pc2 := 13) ?_ rfl
        rw [eg, oI_some]
        refine wa_istore (pc := 13) (y := mX6_takeHeld) dX6_takeHeld_13 (Nat.le_of_ble_eq_true rfl) rfl ?_
        simp only [List.set_cons_zero, List.set_cons_succ]
        first | refine wa_aload_n (pc := 15) (y := mX6_takeHeld) dX6_takeHeld_15 rfl ?_ | refine wa_aload_nN (pc := 15) (y := mX6_takeHeld) dX6_takeHeld_15 rfl ?_ | refine wa_aload_nq (pc := 15) (y := mX6_takeHeld) dX6_takeHeld_15 rfl ?_
        refine wa_getf (pc := 16) (y := mX6_takeHeld) (k := 5) 0 dX6_takeHeld_16 mH_o rfl q2643 (Or.inl rfl) (Nat.le_of_ble_eq_true rfl) (by rfl) ?_
        refine wa_iload (pc := 19) (y := mX6_takeHeld) dX6_takeHeld_19 rfl ?_
        refine wa_callS (pc := 21) (s_X6_at (d := d - 1)) dX6_takeHeld_21 okX6_at q2727 q2728 rfl rfl (Nat.le_of_ble_eq_true rfl) (Nat.le_of_ble_eq_true rfl) (by omega) ?_
        rintro _ _ - - ⟨rfl, rfl⟩
        refine aft_v (pc2 := 24) ?_ rfl
        refine wa_iconst (pc := 24) (y := mX6_takeHeld) (Int32.ofNat 3) dX6_takeHeld_24 rfl ?_
        first | with_reducible refine wa_iaddN (pc := 25) (y := mX6_takeHeld) dX6_takeHeld_25 ?_ | refine wa_iadd (pc := 25) (y := mX6_takeHeld) dX6_takeHeld_25 ?_
        refine wa_ialoadN (pc := 26) (y := mX6_takeHeld) dX6_takeHeld_26 mH_1 (by omega) ?_
        refine wa_iconst (pc := 27) (y := mX6_takeHeld) (Int32.ofNat 1) dX6_takeHeld_27 rfl ?_
        refine wa_icmp_ne (pc := 28) 33 dX6_takeHeld_28 rfl (fun hb28 => ?_) (fun hb28 => absurd hb28 e1)
        refine wa_iload (pc := 33) (y := mX6_takeHeld) dX6_takeHeld_33 rfl ?_
        refine wa_if_ge (pc := 35) 40 dX6_takeHeld_35 rfl (fun hb35 => ?_) (fun hb35 => absurd ((iN_le (a := 0) (by omega) (by omega)).mpr (by omega)) hb35)
        first | refine wa_aload_n (pc := 40) (y := mX6_takeHeld) dX6_takeHeld_40 rfl ?_ | refine wa_aload_nN (pc := 40) (y := mX6_takeHeld) dX6_takeHeld_40 rfl ?_ | refine wa_aload_nq (pc := 40) (y := mX6_takeHeld) dX6_takeHeld_40 rfl ?_
        refine wa_callV (pc := 41) (s_X6_keepLevels (d := d - 1) (by omega) hI) dX6_takeHeld_41 okX6_keepLevels q2750 q2752 qs45 mH_o rfl rfl rfl (Nat.le_of_ble_eq_true rfl) (Nat.le_of_ble_eq_true rfl) (by omega) ?_
        rintro _ _ - - ⟨rfl, rfl⟩
        refine aft_0 (pc2 := 44) ?_ rfl
        first | refine wa_aload_n (pc := 44) (y := mX6_takeHeld) dX6_takeHeld_44 rfl ?_ | refine wa_aload_nN (pc := 44) (y := mX6_takeHeld) dX6_takeHeld_44 rfl ?_ | refine wa_aload_nq (pc := 44) (y := mX6_takeHeld) dX6_takeHeld_44 rfl ?_
        refine wa_iload (pc := 45) (y := mX6_takeHeld) dX6_takeHeld_45 rfl ?_
        refine wa_callV (pc := 47) (s_X6_takeAway (d := d - 1) (by omega) hi hk) dX6_takeHeld_47 okX6_takeAway q2857 q2859 qs62 mH_o rfl rfl rfl (Nat.le_of_ble_eq_true rfl) (Nat.le_of_ble_eq_true rfl) (by omega) ?_
        rintro _ _ - - ⟨rfl, rfl⟩
        refine aft_0 (pc2 := 50) ?_ rfl
        refine wa_iload_n (pc := 50) (y := mX6_takeHeld) dX6_takeHeld_50 rfl ?_
        refine wa_if_eq (pc := 51) 69 dX6_takeHeld_51 rfl (fun hb51 => absurd hb51 (by decide)) (fun hb51 => ?_)
        first | refine wa_aload_n (pc := 54) (y := mX6_takeHeld) dX6_takeHeld_54 rfl ?_ | refine wa_aload_nN (pc := 54) (y := mX6_takeHeld) dX6_takeHeld_54 rfl ?_ | refine wa_aload_nq (pc := 54) (y := mX6_takeHeld) dX6_takeHeld_54 rfl ?_
        refine wa_iload (pc := 55) (y := mX6_takeHeld) dX6_takeHeld_55 rfl ?_
        refine wa_iconst (pc := 57) (y := mX6_takeHeld) (Int32.ofNat 1) dX6_takeHeld_57 rfl ?_
        first | with_reducible refine wa_iaddN (pc := 58) (y := mX6_takeHeld) dX6_takeHeld_58 ?_ | refine wa_iadd (pc := 58) (y := mX6_takeHeld) dX6_takeHeld_58 ?_
        refine wa_iload (pc := 59) (y := mX6_takeHeld) dX6_takeHeld_59 rfl ?_
        refine wa_iconst (pc := 61) (y := mX6_takeHeld) (Int32.ofNat 1) dX6_takeHeld_61 rfl ?_
        first | with_reducible refine wa_iaddN (pc := 62) (y := mX6_takeHeld) dX6_takeHeld_62 ?_ | refine wa_iadd (pc := 62) (y := mX6_takeHeld) dX6_takeHeld_62 ?_
        refine wa_callV (pc := 63) (s_X6_hold (d := d - 1) (by omega) hI2 (by omega) (fun q => by rw [l0] at q; omega)) dX6_takeHeld_63 okX6_hold q2833 q2835 qs58 mH_o rfl rfl rfl (Nat.le_of_ble_eq_true rfl) (Nat.le_of_ble_eq_true rfl) (by omega) ?_
        rintro _ _ - - ⟨rfl, rfl⟩
        refine aft_v (pc2 := 66) ?_ rfl
        rw [mA_s]
        refine wa_goto (pc := 66) (y := mX6_takeHeld) 70 dX6_takeHeld_66 rfl ?_
        exact wa_ireturn (pc := 70) (y := mX6_takeHeld) .int dX6_takeHeld_70 rfl rfl ⟨rfl, rfl⟩
theorem s_X6_doRemove {cue : Int32} {b : Bool} (hd : 4 ≤ d) (hI : Inv f) : MA G d mX6_doRemove [.ref m, .int cue, .int (bI b)] (mH h m f σ) (fun r h' => r = .inl (some (.int (Int32.ofNat (dRm f σ cue b).1))) ∧ h' = mH h m (dRm f σ cue b).2.1 (dRm f σ cue b).2.2) := by
  have hn := hI.1
  have hi := hI.2.1
  show WA _ _ _ 0 [.ref m, .int _, .int _, .retAddr 0, .retAddr 0] [] _ _
  cases hp : pl f cue with
  | none =>
    rw [show dRm f σ cue b = (1, f, σ) by unfold dRm; rw [hp]]
    first | refine wa_aload_n (pc := 0) (y := mX6_doRemove) dX6_doRemove_0 rfl ?_ | refine wa_aload_nN (pc := 0) (y := mX6_doRemove) dX6_doRemove_0 rfl ?_ | refine wa_aload_nq (pc := 0) (y := mX6_doRemove) dX6_doRemove_0 rfl ?_
    refine wa_iload_n (pc := 1) (y := mX6_doRemove) dX6_doRemove_1 rfl ?_
    refine wa_callV (pc := 2) (s_X6_placeOf (d := d - 1) (by omega) hI) dX6_doRemove_2 okX6_placeOf q2723 q2725 qs42 mH_o rfl rfl rfl (Nat.le_of_ble_eq_true rfl) (Nat.le_of_ble_eq_true rfl) (by omega) ?_
    rintro _ _ - - ⟨rfl, rfl⟩
    refine aft_v (pc2 := 5) ?_ rfl
    rw [hp, oI_none]
    refine wa_istore_n (pc := 5) (y := mX6_doRemove) dX6_doRemove_5 (Nat.le_of_ble_eq_true rfl) rfl ?_
    change WA _ _ _ _ (List.set _ 3 _) _ _ _
    simp only [List.set_cons_zero, List.set_cons_succ]
    refine wa_iload_n (pc := 6) (y := mX6_doRemove) dX6_doRemove_6 rfl ?_
    refine wa_if_ge (pc := 7) 12 dX6_doRemove_7 rfl (fun hb7 => absurd hb7 (by decide)) (fun hb7 => ?_)
    refine wa_iconst (pc := 10) (y := mX6_doRemove) (Int32.ofNat 1) dX6_doRemove_10 rfl ?_
    exact wa_ireturn (pc := 11) (y := mX6_doRemove) .int dX6_doRemove_11 rfl rfl ⟨rfl, rfl⟩
  | some p =>
    have hps := pl_some hp
    by_cases e1 : f (18 + 12 * p + 3) = 1
    · rw [show dRm f σ cue b = (2, σ.1 1, mV σ 6 (Int32.ofNat 1)) by unfold dRm; rw [hp]; exact if_pos e1]
      first | refine wa_aload_n (pc := 0) (y := mX6_doRemove) dX6_doRemove_0 rfl ?_ | refine wa_aload_nN (pc := 0) (y := mX6_doRemove) dX6_doRemove_0 rfl ?_ | refine wa_aload_nq (pc := 0) (y := mX6_doRemove) dX6_doRemove_0 rfl ?_
      refine wa_iload_n (pc := 1) (y := mX6_doRemove) dX6_doRemove_1 rfl ?_
      refine wa_callV (pc := 2) (s_X6_placeOf (d := d - 1) (by omega) hI) dX6_doRemove_2 okX6_placeOf q2723 q2725 qs42 mH_o rfl rfl rfl (Nat.le_of_ble_eq_true rfl) (Nat.le_of_ble_eq_true rfl) (by omega) ?_
      rintro _ _ - - ⟨rfl, rfl⟩
      refine aft_v (pc2 := 5) ?_ rfl
      rw [hp, oI_some]
      refine wa_istore_n (pc := 5) (y := mX6_doRemove) dX6_doRemove_5 (Nat.le_of_ble_eq_true rfl) rfl ?_
      change WA _ _ _ _ (List.set _ 3 _) _ _ _
      simp only [List.set_cons_zero, List.set_cons_succ]
      refine wa_iload_n (pc := 6) (y := mX6_doRemove) dX6_doRemove_6 rfl ?_
      refine wa_if_ge (pc := 7) 12 dX6_doRemove_7 rfl (fun hb7 => ?_) (fun hb7 => absurd ((iN_le (a := 0) (by omega) (by omega)).mpr (by omega)) hb7)
      first | refine wa_aload_n (pc := 12) (y := mX6_doRemove) dX6_doRemove_12 rfl ?_ | refine wa_aload_nN (pc := 12) (y := mX6_doRemove) dX6_doRemove_12 rfl ?_ | refine wa_aload_nq (pc := 12) (y := mX6_doRemove) dX6_doRemove_12 rfl ?_
      refine wa_getf (pc := 13) (y := mX6_doRemove) (k := 5) 0 dX6_doRemove_13 mH_o rfl q2643 (Or.inl rfl) (Nat.le_of_ble_eq_true rfl) (by rfl) ?_
      refine wa_iload_n (pc := 16) (y := mX6_doRemove) dX6_doRemove_16 rfl ?_
      refine wa_callS (pc := 17) (s_X6_at (d := d - 1)) dX6_doRemove_17 okX6_at q2727 q2728 rfl rfl (Nat.le_of_ble_eq_true rfl) (Nat.le_of_ble_eq_true rfl) (by omega) ?_
      rintro _ _ - - ⟨rfl, rfl⟩
      refine aft_v (pc2 := 20) ?_ rfl
      refine wa_iconst (pc := 20) (y := mX6_doRemove) (Int32.ofNat 3) dX6_doRemove_20 rfl ?_
      first | with_reducible refine wa_iaddN (pc := 21) (y := mX6_doRemove) dX6_doRemove_21 ?_ | refine wa_iadd (pc := 21) (y := mX6_doRemove) dX6_doRemove_21 ?_
      refine wa_ialoadN (pc := 22) (y := mX6_doRemove) dX6_doRemove_22 mH_1 (by omega) ?_
      refine wa_iconst (pc := 23) (y := mX6_doRemove) (Int32.ofNat 1) dX6_doRemove_23 rfl ?_
      refine wa_icmp_ne (pc := 24) 35 dX6_doRemove_24 rfl (fun hb24 => absurd e1 hb24) (fun hb24 => ?_)
      first | refine wa_aload_n (pc := 27) (y := mX6_doRemove) dX6_doRemove_27 rfl ?_ | refine wa_aload_nN (pc := 27) (y := mX6_doRemove) dX6_doRemove_27 rfl ?_ | refine wa_aload_nq (pc := 27) (y := mX6_doRemove) dX6_doRemove_27 rfl ?_
      refine wa_iconst (pc := 28) (y := mX6_doRemove) (Int32.ofNat 1) dX6_doRemove_28 rfl ?_
      refine wa_callV (pc := 29) (s_X6_refuse (d := d - 1) (by omega)) dX6_doRemove_29 okX6_refuse q2837 q2839 qs59 mH_o rfl rfl rfl (Nat.le_of_ble_eq_true rfl) (Nat.le_of_ble_eq_true rfl) (by omega) ?_
      rintro _ _ - - ⟨rfl, rfl⟩
      refine aft_v (pc2 := 32) ?_ rfl
      refine wa_pop (pc := 32) (y := mX6_doRemove) dX6_doRemove_32 rfl ?_
      refine wa_iconst (pc := 33) (y := mX6_doRemove) (Int32.ofNat 2) dX6_doRemove_33 rfl ?_
      exact wa_ireturn (pc := 34) (y := mX6_doRemove) .int dX6_doRemove_34 rfl rfl ⟨rfl, rfl⟩
    · have lp : ∀ (R : Nat → Int32) (Q : RR → AH → Prop), WA G d mX6_doRemove 83 [.ref m, .int cue, .int (bI b), .int (Int32.ofNat p), .int (dn 0)] [] (mH h m R (mA σ 8 (klF f (σ.1 8) (12 * u (f 0))))) Q → ∀ k g, u (g 1) ≤ 60 → k ≤ u (g 1) → rmg cue k g = R → WA G d mX6_doRemove 49 [.ref m, .int cue, .int (bI b), .int (Int32.ofNat p), .int (dn k)] [] (mH h m g (mA σ 8 (klF f (σ.1 8) (12 * u (f 0))))) Q := by
        intro R Q K k
        induction k with
        | zero =>
          intro g hg hk e
          replace e : g = R := e
          rw [e]
          refine wa_iload (pc := 49) (y := mX6_doRemove) dX6_doRemove_49 rfl ?_
          refine wa_if_lt (pc := 51) 83 dX6_doRemove_51 rfl (fun hb51 => ?_) (fun hb51 => absurd (by decide) hb51)
          exact K
        | succ k ih =>
          intro g hg hk e
          unfold rmg at e
          rw [dn_s]
          have n1 := tkF_1 (f := g) (k := k) hg
          by_cases e2 : g (162 + 4 * k) = cue
          · rw [if_pos e2] at e
            refine wa_iload (pc := 49) (y := mX6_doRemove) dX6_doRemove_49 rfl ?_
            refine wa_if_lt (pc := 51) 83 dX6_doRemove_51 rfl (fun hb51 => absurd ((iN_lt (b := 0) (by omega) (by omega)).mp hb51) (by omega)) (fun hb51 => ?_)
            first | refine wa_aload_n (pc := 54) (y := mX6_doRemove) dX6_doRemove_54 rfl ?_ | refine wa_aload_nN (pc := 54) (y := mX6_doRemove) dX6_doRemove_54 rfl ?_ | refine wa_aload_nq (pc := 54) (y := mX6_doRemove) dX6_doRemove_54 rfl ?_
            refine wa_getf (pc := 55) (y := mX6_doRemove) (k := 5) 0 dX6_doRemove_55 mH_o rfl q2643 (Or.inl rfl) (Nat.le_of_ble_eq_true rfl) (by rfl) ?_
            refine wa_sipush (pc := 58) (y := mX6_doRemove) (Int32.ofNat 162) dX6_doRemove_58 rfl ?_
            refine wa_iconst (pc := 61) (y := mX6_doRemove) (Int32.ofNat 4) dX6_doRemove_61 rfl ?_
            refine wa_iload (pc := 62) (y := mX6_doRemove) dX6_doRemove_62 rfl ?_
            first | with_reducible refine wa_imulN (pc := 64) (y := mX6_doRemove) dX6_doRemove_64 ?_ | refine wa_imul (pc := 64) (y := mX6_doRemove) dX6_doRemove_64 ?_
            first | with_reducible refine wa_iaddN (pc := 65) (y := mX6_doRemove) dX6_doRemove_65 ?_ | refine wa_iadd (pc := 65) (y := mX6_doRemove) dX6_doRemove_65 ?_
            refine wa_ialoadN (pc := 66) (y := mX6_doRemove) dX6_doRemove_66 mH_1 (by omega) ?_
            refine wa_iload_n (pc := 67) (y := mX6_doRemove) dX6_doRemove_67 rfl ?_
            refine wa_icmp_ne (pc := 68) 77 dX6_doRemove_68 rfl (fun hb68 => absurd e2 hb68) (fun hb68 => ?_)
            first | refine wa_aload_n (pc := 71) (y := mX6_doRemove) dX6_doRemove_71 rfl ?_ | refine wa_aload_nN (pc := 71) (y := mX6_doRemove) dX6_doRemove_71 rfl ?_ | refine wa_aload_nq (pc := 71) (y := mX6_doRemove) dX6_doRemove_71 rfl ?_
            refine wa_iload (pc := 72) (y := mX6_doRemove) dX6_doRemove_72 rfl ?_
            refine wa_callV (pc := 74) (s_X6_takeAway (d := d - 1) (by omega) hg (by omega)) dX6_doRemove_74 okX6_takeAway q2857 q2859 qs62 mH_o rfl rfl rfl (Nat.le_of_ble_eq_true rfl) (Nat.le_of_ble_eq_true rfl) (by omega) ?_
            rintro _ _ - - ⟨rfl, rfl⟩
            refine aft_0 (pc2 := 77) ?_ rfl
            refine wa_iinc (pc := 77) (y := mX6_doRemove) (-1) dX6_doRemove_77 rfl rfl (Nat.le_of_ble_eq_true rfl) rfl ?_
            simp only [List.set_cons_zero, List.set_cons_succ]
            rw [← dn_s k, dn_i]
            refine wa_goto (pc := 80) (y := mX6_doRemove) 49 dX6_doRemove_80 rfl ?_
            exact ih _ (by omega) (by omega) e
          · rw [if_neg e2] at e
            refine wa_iload (pc := 49) (y := mX6_doRemove) dX6_doRemove_49 rfl ?_
            refine wa_if_lt (pc := 51) 83 dX6_doRemove_51 rfl (fun hb51 => absurd ((iN_lt (b := 0) (by omega) (by omega)).mp hb51) (by omega)) (fun hb51 => ?_)
            first | refine wa_aload_n (pc := 54) (y := mX6_doRemove) dX6_doRemove_54 rfl ?_ | refine wa_aload_nN (pc := 54) (y := mX6_doRemove) dX6_doRemove_54 rfl ?_ | refine wa_aload_nq (pc := 54) (y := mX6_doRemove) dX6_doRemove_54 rfl ?_
            refine wa_getf (pc := 55) (y := mX6_doRemove) (k := 5) 0 dX6_doRemove_55 mH_o rfl q2643 (Or.inl rfl) (Nat.le_of_ble_eq_true rfl) (by rfl) ?_
            refine wa_sipush (pc := 58) (y := mX6_doRemove) (Int32.ofNat 162) dX6_doRemove_58 rfl ?_
            refine wa_iconst (pc := 61) (y := mX6_doRemove) (Int32.ofNat 4) dX6_doRemove_61 rfl ?_
            refine wa_iload (pc := 62) (y := mX6_doRemove) dX6_doRemove_62 rfl ?_
            first | with_reducible refine wa_imulN (pc := 64) (y := mX6_doRemove) dX6_doRemove_64 ?_ | refine wa_imul (pc := 64) (y := mX6_doRemove) dX6_doRemove_64 ?_
            first | with_reducible refine wa_iaddN (pc := 65) (y := mX6_doRemove) dX6_doRemove_65 ?_ | refine wa_iadd (pc := 65) (y := mX6_doRemove) dX6_doRemove_65 ?_
            refine wa_ialoadN (pc := 66) (y := mX6_doRemove) dX6_doRemove_66 mH_1 (by omega) ?_
            refine wa_iload_n (pc := 67) (y := mX6_doRemove) dX6_doRemove_67 rfl ?_
            refine wa_icmp_ne (pc := 68) 77 dX6_doRemove_68 rfl (fun hb68 => ?_) (fun hb68 => absurd hb68 e2)
            refine wa_iinc (pc := 77) (y := mX6_doRemove) (-1) dX6_doRemove_77 rfl rfl (Nat.le_of_ble_eq_true rfl) rfl ?_
            simp only [List.set_cons_zero, List.set_cons_succ]
            rw [← dn_s k, dn_i]
            refine wa_goto (pc := 80) (y := mX6_doRemove) 49 dX6_doRemove_80 rfl ?_
            exact ih _ hg (by omega) e
      obtain ⟨hRI, hRn⟩ := rmg_inv (cue := cue) hI (Nat.le_refl _) (fun i h1 h2 => by omega)
      have hR0 : rmg cue (u (f 1)) f 0 = f 0 := rmg_lo (by omega) (by omega)
      have hRp : rmg cue (u (f 1)) f (18 + 12 * p) = cue := (rmg_lo (by omega) (by omega)).trans hps.2
      have hCI : Inv (rcF (rmg cue (u (f 1)) f) p) := inv_rc hRI (by rw [hR0]; exact hps.1) (fun i hi => by rw [hRp]; exact hRn i hi)
      have hC0 := rcF_0 (f := rmg cue (u (f 1)) f) (p := p) (by rw [hR0]; exact hn)
      rw [hR0] at hC0
      have at125 : WA G d mX6_doRemove 125 [.ref m, .int cue, .int (bI b), .int (Int32.ofNat p), .int (dn 0)] [] (mH h m (rcF (rmg cue (u (f 1)) f) p) (mA σ 8 (klF f (σ.1 8) (12 * u (f 0))))) (fun r h' => r = .inl (some (.int (Int32.ofNat (dRm f σ cue b).1))) ∧ h' = mH h m (dRm f σ cue b).2.1 (dRm f σ cue b).2.2) := by
        cases b with
        | false =>
          rw [show dRm f σ cue false = (0, rcF (rmg cue (u (f 1)) f) p, mA σ 8 (klF f (σ.1 8) (12 * u (f 0)))) by unfold dRm; rw [hp]; exact (if_neg e1).trans (if_neg (by decide))]
          refine wa_iload_n (pc := 125) (y := mX6_doRemove) dX6_doRemove_125 rfl ?_
          refine wa_if_eq (pc := 126) 140 dX6_doRemove_126 rfl (fun hb126 => ?_) (fun hb126 => absurd rfl hb126)
          refine wa_iconst (pc := 140) (y := mX6_doRemove) (Int32.ofNat 0) dX6_doRemove_140 rfl ?_
          refine wa_istore (pc := 141) (y := mX6_doRemove) dX6_doRemove_141 (Nat.le_of_ble_eq_true rfl) rfl ?_
          simp only [List.set_cons_zero, List.set_cons_succ]
          refine wa_iload (pc := 143) (y := mX6_doRemove) dX6_doRemove_143 rfl ?_
          refine wa_if_le (pc := 145) 157 dX6_doRemove_145 rfl (fun hb145 => ?_) (fun hb145 => absurd (by decide) hb145)
          refine wa_iconst (pc := 157) (y := mX6_doRemove) (Int32.ofNat 0) dX6_doRemove_157 rfl ?_
          exact wa_ireturn (pc := 158) (y := mX6_doRemove) .int dX6_doRemove_158 rfl rfl ⟨rfl, rfl⟩
        | true =>
          have hle := hdF_le (lev := klF f (σ.1 8) (12 * u (f 0))) (p := p) (was := p + 1) (f := rcF (rmg cue (u (f 1)) f) p)
          by_cases e3 : 0 < (hdF (klF f (σ.1 8) (12 * u (f 0))) p (p + 1) (rcF (rmg cue (u (f 1)) f) p)).1
          · rw [show dRm f σ cue true = (2, σ.1 1, mV (mA σ 8 (klF f (σ.1 8) (12 * u (f 0)))) 6 (Int32.ofNat (hdF (klF f (σ.1 8) (12 * u (f 0))) p (p + 1) (rcF (rmg cue (u (f 1)) f) p)).1)) by unfold dRm; rw [hp]; exact (if_neg e1).trans ((if_pos rfl).trans (if_pos e3))]
            refine wa_iload_n (pc := 125) (y := mX6_doRemove) dX6_doRemove_125 rfl ?_
            refine wa_if_eq (pc := 126) 140 dX6_doRemove_126 rfl (fun hb126 => absurd hb126 (by decide)) (fun hb126 => ?_)
            first | refine wa_aload_n (pc := 129) (y := mX6_doRemove) dX6_doRemove_129 rfl ?_ | refine wa_aload_nN (pc := 129) (y := mX6_doRemove) dX6_doRemove_129 rfl ?_ | refine wa_aload_nq (pc := 129) (y := mX6_doRemove) dX6_doRemove_129 rfl ?_
            refine wa_iload_n (pc := 130) (y := mX6_doRemove) dX6_doRemove_130 rfl ?_
            refine wa_iload_n (pc := 131) (y := mX6_doRemove) dX6_doRemove_131 rfl ?_
            refine wa_iconst (pc := 132) (y := mX6_doRemove) (Int32.ofNat 1) dX6_doRemove_132 rfl ?_
            first | with_reducible refine wa_iaddN (pc := 133) (y := mX6_doRemove) dX6_doRemove_133 ?_ | refine wa_iadd (pc := 133) (y := mX6_doRemove) dX6_doRemove_133 ?_
            refine wa_callV (pc := 134) (s_X6_hold (d := d - 1) (by omega) hCI (by omega) (fun q => by omega)) dX6_doRemove_134 okX6_hold q2833 q2835 qs58 mH_o rfl rfl rfl (Nat.le_of_ble_eq_true rfl) (Nat.le_of_ble_eq_true rfl) (by omega) ?_
            rintro _ _ - - ⟨rfl, rfl⟩
            refine aft_v (pc2 := 137) ?_ rfl
            rw [mA_s]
            refine wa_goto (pc := 137) (y := mX6_doRemove) 141 dX6_doRemove_137 rfl ?_
            refine wa_istore (pc := 141) (y := mX6_doRemove) dX6_doRemove_141 (Nat.le_of_ble_eq_true rfl) rfl ?_
            simp only [List.set_cons_zero, List.set_cons_succ]
            refine wa_iload (pc := 143) (y := mX6_doRemove) dX6_doRemove_143 rfl ?_
            refine wa_if_le (pc := 145) 157 dX6_doRemove_145 rfl (fun hb145 => absurd ((iN_pos (by omega)).mp hb145) (by omega)) (fun hb145 => ?_)
            first | refine wa_aload_n (pc := 148) (y := mX6_doRemove) dX6_doRemove_148 rfl ?_ | refine wa_aload_nN (pc := 148) (y := mX6_doRemove) dX6_doRemove_148 rfl ?_ | refine wa_aload_nq (pc := 148) (y := mX6_doRemove) dX6_doRemove_148 rfl ?_
            refine wa_iload (pc := 149) (y := mX6_doRemove) dX6_doRemove_149 rfl ?_
            refine wa_callV (pc := 151) (s_X6_refuse (d := d - 1) (by omega)) dX6_doRemove_151 okX6_refuse q2837 q2839 qs59 mH_o rfl rfl rfl (Nat.le_of_ble_eq_true rfl) (Nat.le_of_ble_eq_true rfl) (by omega) ?_
            rintro _ _ - - ⟨rfl, rfl⟩
            refine aft_v (pc2 := 154) ?_ rfl
            refine wa_pop (pc := 154) (y := mX6_doRemove) dX6_doRemove_154 rfl ?_
            refine wa_iconst (pc := 155) (y := mX6_doRemove) (Int32.ofNat 2) dX6_doRemove_155 rfl ?_
            exact wa_ireturn (pc := 156) (y := mX6_doRemove) .int dX6_doRemove_156 rfl rfl ⟨rfl, rfl⟩
          · rw [show dRm f σ cue true = (0, (hdF (klF f (σ.1 8) (12 * u (f 0))) p (p + 1) (rcF (rmg cue (u (f 1)) f) p)).2, mA σ 8 (klF f (σ.1 8) (12 * u (f 0)))) by unfold dRm; rw [hp]; exact (if_neg e1).trans ((if_pos rfl).trans (if_neg e3))]
            refine wa_iload_n (pc := 125) (y := mX6_doRemove) dX6_doRemove_125 rfl ?_
            refine wa_if_eq (pc := 126) 140 dX6_doRemove_126 rfl (fun hb126 => absurd hb126 (by decide)) (fun hb126 => ?_)
            first | refine wa_aload_n (pc := 129) (y := mX6_doRemove) dX6_doRemove_129 rfl ?_ | refine wa_aload_nN (pc := 129) (y := mX6_doRemove) dX6_doRemove_129 rfl ?_ | refine wa_aload_nq (pc := 129) (y := mX6_doRemove) dX6_doRemove_129 rfl ?_
            refine wa_iload_n (pc := 130) (y := mX6_doRemove) dX6_doRemove_130 rfl ?_
            refine wa_iload_n (pc := 131) (y := mX6_doRemove) dX6_doRemove_131 rfl ?_
            refine wa_iconst (pc := 132) (y := mX6_doRemove) (Int32.ofNat 1) dX6_doRemove_132 rfl ?_
            first | with_reducible refine wa_iaddN (pc := 133) (y := mX6_doRemove) dX6_doRemove_133 ?_ | refine wa_iadd (pc := 133) (y := mX6_doRemove) dX6_doRemove_133 ?_
            refine wa_callV (pc := 134) (s_X6_hold (d := d - 1) (by omega) hCI (by omega) (fun q => by omega)) dX6_doRemove_134 okX6_hold q2833 q2835 qs58 mH_o rfl rfl rfl (Nat.le_of_ble_eq_true rfl) (Nat.le_of_ble_eq_true rfl) (by omega) ?_
            rintro _ _ - - ⟨rfl, rfl⟩
            refine aft_v (pc2 := 137) ?_ rfl
            rw [mA_s]
            refine wa_goto (pc := 137) (y := mX6_doRemove) 141 dX6_doRemove_137 rfl ?_
            refine wa_istore (pc := 141) (y := mX6_doRemove) dX6_doRemove_141 (Nat.le_of_ble_eq_true rfl) rfl ?_
            simp only [List.set_cons_zero, List.set_cons_succ]
            refine wa_iload (pc := 143) (y := mX6_doRemove) dX6_doRemove_143 rfl ?_
            refine wa_if_le (pc := 145) 157 dX6_doRemove_145 rfl (fun hb145 => ?_) (fun hb145 => absurd ((iN_pos (by omega)).mpr (by omega)) hb145)
            refine wa_iconst (pc := 157) (y := mX6_doRemove) (Int32.ofNat 0) dX6_doRemove_157 rfl ?_
            exact wa_ireturn (pc := 158) (y := mX6_doRemove) .int dX6_doRemove_158 rfl rfl ⟨rfl, rfl⟩
      have at83 : WA G d mX6_doRemove 83 [.ref m, .int cue, .int (bI b), .int (Int32.ofNat p), .int (dn 0)] [] (mH h m (rmg cue (u (f 1)) f) (mA σ 8 (klF f (σ.1 8) (12 * u (f 0))))) (fun r h' => r = .inl (some (.int (Int32.ofNat (dRm f σ cue b).1))) ∧ h' = mH h m (dRm f σ cue b).2.1 (dRm f σ cue b).2.2) := by
        unfold rcF at at125
        generalize rmg cue (u (f 1)) f = R at at125 hR0
        have hb9 : u (R 0) ≤ 12 ∧ p < u (R 0) := by rw [hR0]; exact ⟨hn, hps.1⟩
        first | refine wa_aload_n (pc := 83) (y := mX6_doRemove) dX6_doRemove_83 rfl ?_ | refine wa_aload_nN (pc := 83) (y := mX6_doRemove) dX6_doRemove_83 rfl ?_ | refine wa_aload_nq (pc := 83) (y := mX6_doRemove) dX6_doRemove_83 rfl ?_
        refine wa_getf (pc := 84) (y := mX6_doRemove) (k := 5) 0 dX6_doRemove_84 mH_o rfl q2643 (Or.inl rfl) (Nat.le_of_ble_eq_true rfl) (by rfl) ?_
        refine wa_iconst (pc := 87) (y := mX6_doRemove) (Int32.ofNat 0) dX6_doRemove_87 rfl ?_
        refine wa_dup2 (pc := 88) (y := mX6_doRemove) dX6_doRemove_88 rfl rfl ?_
        refine wa_ialoadU (pc := 89) (y := mX6_doRemove) dX6_doRemove_89 mH_1 (by omega) ?_
        refine wa_iconst (pc := 90) (y := mX6_doRemove) (Int32.ofNat 1) dX6_doRemove_90 rfl ?_
        refine wa_isubN (pc := 91) (y := mX6_doRemove) dX6_doRemove_91 (by omega) ?_
        refine wa_iastoreN (pc := 92) (y := mX6_doRemove) dX6_doRemove_92 mH_1 (by omega) ?_
        rw [mW_1]
        first | refine wa_aload_n (pc := 93) (y := mX6_doRemove) dX6_doRemove_93 rfl ?_ | refine wa_aload_nN (pc := 93) (y := mX6_doRemove) dX6_doRemove_93 rfl ?_ | refine wa_aload_nq (pc := 93) (y := mX6_doRemove) dX6_doRemove_93 rfl ?_
        refine wa_getf (pc := 94) (y := mX6_doRemove) (k := 5) 0 dX6_doRemove_94 mH_o rfl q2643 (Or.inl rfl) (Nat.le_of_ble_eq_true rfl) (by rfl) ?_
        refine wa_iload_n (pc := 97) (y := mX6_doRemove) dX6_doRemove_97 rfl ?_
        refine wa_iconst (pc := 98) (y := mX6_doRemove) (Int32.ofNat 1) dX6_doRemove_98 rfl ?_
        first | with_reducible refine wa_iaddN (pc := 99) (y := mX6_doRemove) dX6_doRemove_99 ?_ | refine wa_iadd (pc := 99) (y := mX6_doRemove) dX6_doRemove_99 ?_
        refine wa_callS (pc := 100) (s_X6_at (d := d - 1)) dX6_doRemove_100 okX6_at q2727 q2728 rfl rfl (Nat.le_of_ble_eq_true rfl) (Nat.le_of_ble_eq_true rfl) (by omega) ?_
        rintro _ _ - - ⟨rfl, rfl⟩
        refine aft_v (pc2 := 103) ?_ rfl
        first | refine wa_aload_n (pc := 103) (y := mX6_doRemove) dX6_doRemove_103 rfl ?_ | refine wa_aload_nN (pc := 103) (y := mX6_doRemove) dX6_doRemove_103 rfl ?_ | refine wa_aload_nq (pc := 103) (y := mX6_doRemove) dX6_doRemove_103 rfl ?_
        refine wa_getf (pc := 104) (y := mX6_doRemove) (k := 5) 0 dX6_doRemove_104 mH_o rfl q2643 (Or.inl rfl) (Nat.le_of_ble_eq_true rfl) (by rfl) ?_
        refine wa_iload_n (pc := 107) (y := mX6_doRemove) dX6_doRemove_107 rfl ?_
        refine wa_callS (pc := 108) (s_X6_at (d := d - 1)) dX6_doRemove_108 okX6_at q2727 q2728 rfl rfl (Nat.le_of_ble_eq_true rfl) (Nat.le_of_ble_eq_true rfl) (by omega) ?_
        rintro _ _ - - ⟨rfl, rfl⟩
        refine aft_v (pc2 := 111) ?_ rfl
        refine wa_bipush (pc := 111) (y := mX6_doRemove) (Int32.ofNat 12) dX6_doRemove_111 rfl ?_
        first | refine wa_aload_n (pc := 113) (y := mX6_doRemove) dX6_doRemove_113 rfl ?_ | refine wa_aload_nN (pc := 113) (y := mX6_doRemove) dX6_doRemove_113 rfl ?_ | refine wa_aload_nq (pc := 113) (y := mX6_doRemove) dX6_doRemove_113 rfl ?_
        refine wa_getf (pc := 114) (y := mX6_doRemove) (k := 5) 0 dX6_doRemove_114 mH_o rfl q2643 (Or.inl rfl) (Nat.le_of_ble_eq_true rfl) (by rfl) ?_
        refine wa_iconst (pc := 117) (y := mX6_doRemove) (Int32.ofNat 0) dX6_doRemove_117 rfl ?_
        refine wa_ialoadN (pc := 118) (y := mX6_doRemove) dX6_doRemove_118 mH_1 (by omega) ?_
        rw [upd_s]
        refine wa_iload_n (pc := 119) (y := mX6_doRemove) dX6_doRemove_119 rfl ?_
        refine wa_isubN (pc := 120) (y := mX6_doRemove) dX6_doRemove_120 (by omega) ?_
        first | with_reducible refine wa_imulN (pc := 121) (y := mX6_doRemove) dX6_doRemove_121 ?_ | refine wa_imul (pc := 121) (y := mX6_doRemove) dX6_doRemove_121 ?_
        refine wa_copyN (pc := 122) dX6_doRemove_122 q2711 q352 q351 q96 mH_1 mH_1 (by omega) (Nat.le_of_ble_eq_true rfl) (by omega) ?_
        rw [mW_1]
        exact at125
      first | refine wa_aload_n (pc := 0) (y := mX6_doRemove) dX6_doRemove_0 rfl ?_ | refine wa_aload_nN (pc := 0) (y := mX6_doRemove) dX6_doRemove_0 rfl ?_ | refine wa_aload_nq (pc := 0) (y := mX6_doRemove) dX6_doRemove_0 rfl ?_
      refine wa_iload_n (pc := 1) (y := mX6_doRemove) dX6_doRemove_1 rfl ?_
      refine wa_callV (pc := 2) (s_X6_placeOf (d := d - 1) (by omega) hI) dX6_doRemove_2 okX6_placeOf q2723 q2725 qs42 mH_o rfl rfl rfl (Nat.le_of_ble_eq_true rfl) (Nat.le_of_ble_eq_true rfl) (by omega) ?_
      rintro _ _ - - ⟨rfl, rfl⟩
      refine aft_v (pc2 := 5) ?_ rfl
      rw [hp, oI_some]
      refine wa_istore_n (pc := 5) (y := mX6_doRemove) dX6_doRemove_5 (Nat.le_of_ble_eq_true rfl) rfl ?_
      change WA _ _ _ _ (List.set _ 3 _) _ _ _
      simp only [List.set_cons_zero, List.set_cons_succ]
      refine wa_iload_n (pc := 6) (y := mX6_doRemove) dX6_doRemove_6 rfl ?_
      refine wa_if_ge (pc := 7) 12 dX6_doRemove_7 rfl (fun hb7 => ?_) (fun hb7 => absurd ((iN_le (a := 0) (by omega) (by omega)).mpr (by omega)) hb7)
      first | refine wa_aload_n (pc := 12) (y := mX6_doRemove) dX6_doRemove_12 rfl ?_ | refine wa_aload_nN (pc := 12) (y := mX6_doRemove) dX6_doRemove_12 rfl ?_ | refine wa_aload_nq (pc := 12) (y := mX6_doRemove) dX6_doRemove_12 rfl ?_
      refine wa_getf (pc := 13) (y := mX6_doRemove) (k := 5) 0 dX6_doRemove_13 mH_o rfl q2643 (Or.inl rfl) (Nat.le_of_ble_eq_true rfl) (by rfl) ?_
      refine wa_iload_n (pc := 16) (y := mX6_doRemove) dX6_doRemove_16 rfl ?_
      refine wa_callS (pc := 17) (s_X6_at (d := d - 1)) dX6_doRemove_17 okX6_at q2727 q2728 rfl rfl (Nat.le_of_ble_eq_true rfl) (Nat.le_of_ble_eq_true rfl) (by omega) ?_
      rintro _ _ - - ⟨rfl, rfl⟩
      refine aft_v (pc2 := 20) ?_ rfl
      refine wa_iconst (pc := 20) (y := mX6_doRemove) (Int32.ofNat 3) dX6_doRemove_20 rfl ?_
      first | with_reducible refine wa_iaddN (pc := 21) (y := mX6_doRemove) dX6_doRemove_21 ?_ | refine wa_iadd (pc := 21) (y := mX6_doRemove) dX6_doRemove_21 ?_
      refine wa_ialoadN (pc := 22) (y := mX6_doRemove) dX6_doRemove_22 mH_1 (by omega) ?_
      refine wa_iconst (pc := 23) (y := mX6_doRemove) (Int32.ofNat 1) dX6_doRemove_23 rfl ?_
      refine wa_icmp_ne (pc := 24) 35 dX6_doRemove_24 rfl (fun hb24 => ?_) (fun hb24 => absurd hb24 e1)
      first | refine wa_aload_n (pc := 35) (y := mX6_doRemove) dX6_doRemove_35 rfl ?_ | refine wa_aload_nN (pc := 35) (y := mX6_doRemove) dX6_doRemove_35 rfl ?_ | refine wa_aload_nq (pc := 35) (y := mX6_doRemove) dX6_doRemove_35 rfl ?_
      refine wa_callV (pc := 36) (s_X6_keepLevels (d := d - 1) (by omega) hI) dX6_doRemove_36 okX6_keepLevels q2750 q2752 qs45 mH_o rfl rfl rfl (Nat.le_of_ble_eq_true rfl) (Nat.le_of_ble_eq_true rfl) (by omega) ?_
      rintro _ _ - - ⟨rfl, rfl⟩
      refine aft_0 (pc2 := 39) ?_ rfl
      first | refine wa_aload_n (pc := 39) (y := mX6_doRemove) dX6_doRemove_39 rfl ?_ | refine wa_aload_nN (pc := 39) (y := mX6_doRemove) dX6_doRemove_39 rfl ?_ | refine wa_aload_nq (pc := 39) (y := mX6_doRemove) dX6_doRemove_39 rfl ?_
      refine wa_getf (pc := 40) (y := mX6_doRemove) (k := 5) 0 dX6_doRemove_40 mH_o rfl q2643 (Or.inl rfl) (Nat.le_of_ble_eq_true rfl) (by rfl) ?_
      refine wa_iconst (pc := 43) (y := mX6_doRemove) (Int32.ofNat 1) dX6_doRemove_43 rfl ?_
      refine wa_ialoadU (pc := 44) (y := mX6_doRemove) dX6_doRemove_44 mH_1 (by omega) ?_
      refine wa_iconst (pc := 45) (y := mX6_doRemove) (Int32.ofNat 1) dX6_doRemove_45 rfl ?_
      refine wa_isub (pc := 46) (y := mX6_doRemove) dX6_doRemove_46 ?_
      refine wa_istore (pc := 47) (y := mX6_doRemove) dX6_doRemove_47 (Nat.le_of_ble_eq_true rfl) rfl ?_
      simp only [List.set_cons_zero, List.set_cons_succ]
      exact lp _ _ at83 (u (f 1)) f hi (Nat.le_refl _) rfl
end MTAKE
