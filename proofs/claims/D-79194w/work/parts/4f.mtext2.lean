/-! ===== CueStackModel: texts, second part ===== -/
/-- the state of a text: place, wrong, entries, kinds, numbers -/
def TX (σ : MS) (p : Nat) (w : Bool) (E : Nat) (K N : Nat → Int32) : MS := (fun i => if i = 14 then K else if i = 15 then N else σ.1 i, fun i => if i = 11 then Int32.ofNat p else if i = 12 then bI w else if i = 16 then Int32.ofNat E else σ.2 i)
theorem TX_w (σ : MS) (p : Nat) (w w2 : Bool) (E : Nat) (K N : Nat → Int32) : mV (TX σ p w E K N) 12 (bI w2) = TX σ p w2 E K N := by
  unfold mV TX
  refine Prod.ext rfl ?_
  funext k
  show (if k = 12 then _ else if k = 11 then _ else _) = (if k = 11 then _ else if k = 12 then _ else _)
  by_cases e : k = 12
  · rw [if_pos e, if_neg (by omega), if_pos e]
  · rw [if_neg e]
    simp only [if_neg e]
theorem TX_p (σ : MS) (p p2 : Nat) (w : Bool) (E : Nat) (K N : Nat → Int32) : mV (TX σ p w E K N) 11 (Int32.ofNat p2) = TX σ p2 w E K N := by
  unfold mV TX
  refine Prod.ext rfl ?_
  funext k
  show (if k = 11 then _ else if k = 11 then _ else _) = (if k = 11 then _ else _)
  by_cases e : k = 11
  · rw [if_pos e, if_pos e]
  · rw [if_neg e, if_neg e, if_neg e]
theorem TX_e (σ : MS) (p : Nat) (w : Bool) (E E2 : Nat) (K N : Nat → Int32) : mV (TX σ p w E K N) 16 (Int32.ofNat E2) = TX σ p w E2 K N := by
  unfold mV TX
  refine Prod.ext rfl ?_
  funext k
  show (if k = 16 then _ else if k = 11 then _ else if k = 12 then _ else _) = (if k = 11 then _ else if k = 12 then _ else if k = 16 then _ else _)
  by_cases e : k = 16
  · rw [if_pos e, if_neg (by omega), if_neg (by omega), if_pos e]
  · rw [if_neg e]
    simp only [if_neg e]
theorem TX_K (σ : MS) (p : Nat) (w : Bool) (E : Nat) (K K2 N : Nat → Int32) : mA (TX σ p w E K N) 14 K2 = TX σ p w E K2 N := by
  unfold mA TX
  refine Prod.ext ?_ rfl
  funext k
  show (if k = 14 then _ else if k = 14 then _ else _) = (if k = 14 then _ else _)
  by_cases e : k = 14
  · rw [if_pos e, if_pos e]
  · rw [if_neg e, if_neg e, if_neg e]
theorem TX_N (σ : MS) (p : Nat) (w : Bool) (E : Nat) (K N N2 : Nat → Int32) : mA (TX σ p w E K N) 15 N2 = TX σ p w E K N2 := by
  unfold mA TX
  refine Prod.ext ?_ rfl
  funext k
  show (if k = 15 then _ else if k = 14 then _ else if k = 15 then _ else _) = (if k = 14 then _ else if k = 15 then _ else _)
  by_cases e : k = 15
  · rw [if_pos e, if_neg (by omega), if_pos e]
  · rw [if_neg e]
    simp only [if_neg e]
def hrB (inp : Nat → Int32) (L p : Nat) (w : Bool) (lo hi : Int32) : Bool := !w && (decide (p < L) && inb (inp p) lo hi)
/-- sign: the place, wrong -/
def snT (inp : Nat → Int32) (L : Nat) (c : Int32) (p : Nat) (w : Bool) : Nat × Bool := (if hrB inp L p w c c then p + 1 else p, !hrB inp L p w c c)
/-- number's loop: the number, the place -/
def ngT (inp : Nat → Int32) (L : Nat) (w : Bool) : Nat → Nat → Int32 → Int32 × Nat
  | 0, p, a => (a, p)
  | t + 1, p, a => if hrB inp L p w 48 57 then ngT inp L w t (p + 1) (10 * a + inp p - 48) else (a, p)
def nuT (inp : Nat → Int32) (L dg p : Nat) (w : Bool) : Int32 × Nat × Bool := ((ngT inp L (!hrB inp L p w 48 57) dg p 0).1, (ngT inp L (!hrB inp L p w 48 57) dg p 0).2, !hrB inp L p w 48 57)
def bhT (inp : Nat → Int32) (L : Nat) (c : Int32) (dg p : Nat) (w : Bool) : Int32 × Nat × Bool := nuT inp L dg (snT inp L c p w).1 (snT inp L c p w).2
theorem hrB_lt {inp : Nat → Int32} {L p : Nat} {w : Bool} {lo hi : Int32} (h : hrB inp L p w lo hi = true) : p < L := by
  unfold hrB at h
  rw [Bool.and_eq_true, Bool.and_eq_true, decide_eq_true_eq] at h
  exact h.2.1
theorem snT_le {inp : Nat → Int32} {L p : Nat} {w : Bool} {c : Int32} (h : p ≤ L) : (snT inp L c p w).1 ≤ L := by
  unfold snT
  show (if _ then _ else _) ≤ L
  split
  · rename_i e
    exact hrB_lt e
  · exact h
theorem ngT_le {inp : Nat → Int32} {L : Nat} {w : Bool} : ∀ {t p : Nat} {a : Int32}, p ≤ L → (ngT inp L w t p a).2 ≤ L
  | 0, _, _, h => h
  | t + 1, p, a, h => by
    unfold ngT
    split
    · rename_i e
      exact ngT_le (hrB_lt e)
    · exact h
theorem nuT_le {inp : Nat → Int32} {L dg p : Nat} {w : Bool} (h : p ≤ L) : (nuT inp L dg p w).2.1 ≤ L := ngT_le h
section MTEXT
variable {G : GG} {d : Nat} {h : AH} {m : Nat} {f : Nat → Int32} {σ : MS} {p E L : Nat} {w : Bool} {K N : Nat → Int32}
theorem s_X6_isHere {lo hi : Int32} (hd : 1 ≤ d) (hL : σ.2 10 = Int32.ofNat L) (hL6 : L ≤ 60) (hp : p ≤ L) : MA G d mX6_isHere [.ref m, .int lo, .int hi] (mH h m f (TX σ p w E K N)) (fun r h' => r = .inl (some (.int (bI (hrB (σ.1 9) L p w lo hi)))) ∧ h' = mH h m f (TX σ p w E K N)) := by
  show WA _ _ _ 0 [.ref m, .int _, .int _] [] _ _
  cases w with
  | true =>
    first | refine wa_aload_n (pc := 0) (y := mX6_isHere) dX6_isHere_0 rfl ?_ | refine wa_aload_nN (pc := 0) (y := mX6_isHere) dX6_isHere_0 rfl ?_ | refine wa_aload_nq (pc := 0) (y := mX6_isHere) dX6_isHere_0 rfl ?_
    refine wa_getf (pc := 1) (y := mX6_isHere) (k := 5) 12 dX6_isHere_1 mH_o rfl q2655 (Or.inl rfl) (Nat.le_of_ble_eq_true rfl) (by rfl) ?_
    rw [show (TX σ p true E K N).2 12 = bI true from rfl]
    refine wa_if_ne (pc := 4) 39 dX6_isHere_4 rfl (fun hb4 => ?_) (fun hb4 => absurd hb4 (by decide))
    refine wa_iconst (pc := 39) (y := mX6_isHere) (Int32.ofNat 0) dX6_isHere_39 rfl ?_
    exact wa_ireturn (pc := 40) (y := mX6_isHere) .boolean dX6_isHere_40 rfl rfl ⟨rfl, rfl⟩
  | false =>
    by_cases e : p < L
    · first | refine wa_aload_n (pc := 0) (y := mX6_isHere) dX6_isHere_0 rfl ?_ | refine wa_aload_nN (pc := 0) (y := mX6_isHere) dX6_isHere_0 rfl ?_ | refine wa_aload_nq (pc := 0) (y := mX6_isHere) dX6_isHere_0 rfl ?_
      refine wa_getf (pc := 1) (y := mX6_isHere) (k := 5) 12 dX6_isHere_1 mH_o rfl q2655 (Or.inl rfl) (Nat.le_of_ble_eq_true rfl) (by rfl) ?_
      rw [show (TX σ p false E K N).2 12 = bI false from rfl]
      refine wa_if_ne (pc := 4) 39 dX6_isHere_4 rfl (fun hb4 => absurd rfl hb4) (fun hb4 => ?_)
      first | refine wa_aload_n (pc := 7) (y := mX6_isHere) dX6_isHere_7 rfl ?_ | refine wa_aload_nN (pc := 7) (y := mX6_isHere) dX6_isHere_7 rfl ?_ | refine wa_aload_nq (pc := 7) (y := mX6_isHere) dX6_isHere_7 rfl ?_
      refine wa_getf (pc := 8) (y := mX6_isHere) (k := 5) 11 dX6_isHere_8 mH_o rfl q2654 (Or.inl rfl) (Nat.le_of_ble_eq_true rfl) (by rfl) ?_
      rw [show (TX σ p false E K N).2 11 = Int32.ofNat p from rfl]
      first | refine wa_aload_n (pc := 11) (y := mX6_isHere) dX6_isHere_11 rfl ?_ | refine wa_aload_nN (pc := 11) (y := mX6_isHere) dX6_isHere_11 rfl ?_ | refine wa_aload_nq (pc := 11) (y := mX6_isHere) dX6_isHere_11 rfl ?_
      refine wa_getf (pc := 12) (y := mX6_isHere) (k := 5) 10 dX6_isHere_12 mH_o rfl q2653 (Or.inl rfl) (Nat.le_of_ble_eq_true rfl) (by rfl) ?_
      rw [show (TX σ p false E K N).2 10 = Int32.ofNat L from hL]
      refine wa_icmp_ge (pc := 15) 39 dX6_isHere_15 rfl (fun hb15 => absurd ((iN_le (by omega) (by omega)).mp hb15) (by omega)) (fun hb15 => ?_)
      first | refine wa_aload_n (pc := 18) (y := mX6_isHere) dX6_isHere_18 rfl ?_ | refine wa_aload_nN (pc := 18) (y := mX6_isHere) dX6_isHere_18 rfl ?_ | refine wa_aload_nq (pc := 18) (y := mX6_isHere) dX6_isHere_18 rfl ?_
      refine wa_getf (pc := 19) (y := mX6_isHere) (k := 5) 9 dX6_isHere_19 mH_o rfl q2652 (Or.inl rfl) (Nat.le_of_ble_eq_true rfl) (by rfl) ?_
      first | refine wa_aload_n (pc := 22) (y := mX6_isHere) dX6_isHere_22 rfl ?_ | refine wa_aload_nN (pc := 22) (y := mX6_isHere) dX6_isHere_22 rfl ?_ | refine wa_aload_nq (pc := 22) (y := mX6_isHere) dX6_isHere_22 rfl ?_
      refine wa_getf (pc := 23) (y := mX6_isHere) (k := 5) 11 dX6_isHere_23 mH_o rfl q2654 (Or.inl rfl) (Nat.le_of_ble_eq_true rfl) (by rfl) ?_
      rw [show (TX σ p false E K N).2 11 = Int32.ofNat p from rfl]
      refine wa_caloadN (pc := 26) (y := mX6_isHere) dX6_isHere_26 mH_6 (by omega) ?_
      refine wa_iload_n (pc := 27) (y := mX6_isHere) dX6_isHere_27 rfl ?_
      refine wa_iload_n (pc := 28) (y := mX6_isHere) dX6_isHere_28 rfl ?_
      refine wa_callS (pc := 29) (s_X6_in (d := d - 1)) dX6_isHere_29 okX6_in q2716 q2717 rfl rfl (Nat.le_of_ble_eq_true rfl) (Nat.le_of_ble_eq_true rfl) (by omega) ?_
      rintro _ _ - - ⟨rfl, rfl⟩
      refine aft_v (pc2 := 32) ?_ rfl
      refine wa_if_eq (pc := 32) 39 dX6_isHere_32 rfl (fun hb32 => ?_) (fun hb32 => ?_)
      · have e9 : hrB (σ.1 9) L p false lo hi = false := by unfold hrB; rw [show inb (σ.1 9 p) lo hi = false from bI_0.mp hb32, Bool.and_false, Bool.and_false]
        refine wa_iconst (pc := 39) (y := mX6_isHere) (Int32.ofNat 0) dX6_isHere_39 rfl ?_
        exact wa_ireturn (pc := 40) (y := mX6_isHere) .boolean dX6_isHere_40 rfl rfl ⟨by rw [e9]; rfl, rfl⟩
      · have e9 : hrB (σ.1 9) L p false lo hi = true := by unfold hrB; rw [show inb (σ.1 9 p) lo hi = true from bI_n0 hb32, decide_eq_true e]; rfl
        refine wa_iconst (pc := 35) (y := mX6_isHere) (Int32.ofNat 1) dX6_isHere_35 rfl ?_
        refine wa_goto (pc := 36) (y := mX6_isHere) 40 dX6_isHere_36 rfl ?_
        exact wa_ireturn (pc := 40) (y := mX6_isHere) .boolean dX6_isHere_40 rfl rfl ⟨by rw [e9]; rfl, rfl⟩
    · first | refine wa_aload_n (pc := 0) (y := mX6_isHere) dX6_isHere_0 rfl ?_ | refine wa_aload_nN (pc := 0) (y := mX6_isHere) dX6_isHere_0 rfl ?_ | refine wa_aload_nq (pc := 0) (y := mX6_isHere) dX6_isHere_0 rfl ?_
      refine wa_getf (pc := 1) (y := mX6_isHere) (k := 5) 12 dX6_isHere_1 mH_o rfl q2655 (Or.inl rfl) (Nat.le_of_ble_eq_true rfl) (by rfl) ?_
      rw [show (TX σ p false E K N).2 12 = bI false from rfl]
      refine wa_if_ne (pc := 4) 39 dX6_isHere_4 rfl (fun hb4 => absurd rfl hb4) (fun hb4 => ?_)
      first | refine wa_aload_n (pc := 7) (y := mX6_isHere) dX6_isHere_7 rfl ?_ | refine wa_aload_nN (pc := 7) (y := mX6_isHere) dX6_isHere_7 rfl ?_ | refine wa_aload_nq (pc := 7) (y := mX6_isHere) dX6_isHere_7 rfl ?_
      refine wa_getf (pc := 8) (y := mX6_isHere) (k := 5) 11 dX6_isHere_8 mH_o rfl q2654 (Or.inl rfl) (Nat.le_of_ble_eq_true rfl) (by rfl) ?_
      rw [show (TX σ p false E K N).2 11 = Int32.ofNat p from rfl]
      first | refine wa_aload_n (pc := 11) (y := mX6_isHere) dX6_isHere_11 rfl ?_ | refine wa_aload_nN (pc := 11) (y := mX6_isHere) dX6_isHere_11 rfl ?_ | refine wa_aload_nq (pc := 11) (y := mX6_isHere) dX6_isHere_11 rfl ?_
      refine wa_getf (pc := 12) (y := mX6_isHere) (k := 5) 10 dX6_isHere_12 mH_o rfl q2653 (Or.inl rfl) (Nat.le_of_ble_eq_true rfl) (by rfl) ?_
      rw [show (TX σ p false E K N).2 10 = Int32.ofNat L from hL]
      refine wa_icmp_ge (pc := 15) 39 dX6_isHere_15 rfl (fun hb15 => ?_) (fun hb15 => absurd ((iN_le (by omega) (by omega)).mpr (by omega)) hb15)
      refine wa_iconst (pc := 39) (y := mX6_isHere) (Int32.ofNat 0) dX6_isHere_39 rfl ?_
      exact wa_ireturn (pc := 40) (y := mX6_isHere) .boolean dX6_isHere_40 rfl rfl ⟨by unfold hrB; rw [decide_eq_false e]; rfl, rfl⟩
theorem s_X6_sign {c : Int32} (hd : 2 ≤ d) (hL : σ.2 10 = Int32.ofNat L) (hL6 : L ≤ 60) (hp : p ≤ L) : MA G d mX6_sign [.ref m, .int c] (mH h m f (TX σ p w E K N)) (fun r h' => r = .inl none ∧ h' = mH h m f (TX σ (snT (σ.1 9) L c p w).1 (snT (σ.1 9) L c p w).2 E K N)) := by
  show WA _ _ _ 0 [.ref m, .int _] [] _ _
  unfold snT
  cases e : hrB (σ.1 9) L p w c c with
  | true =>
    first | refine wa_aload_n (pc := 0) (y := mX6_sign) dX6_sign_0 rfl ?_ | refine wa_aload_nN (pc := 0) (y := mX6_sign) dX6_sign_0 rfl ?_ | refine wa_aload_nq (pc := 0) (y := mX6_sign) dX6_sign_0 rfl ?_
    first | refine wa_aload_n (pc := 1) (y := mX6_sign) dX6_sign_1 rfl ?_ | refine wa_aload_nN (pc := 1) (y := mX6_sign) dX6_sign_1 rfl ?_ | refine wa_aload_nq (pc := 1) (y := mX6_sign) dX6_sign_1 rfl ?_
    refine wa_iload_n (pc := 2) (y := mX6_sign) dX6_sign_2 rfl ?_
    refine wa_iload_n (pc := 3) (y := mX6_sign) dX6_sign_3 rfl ?_
    refine wa_callV (pc := 4) (s_X6_isHere (d := d - 1) (by omega) hL hL6 hp) dX6_sign_4 okX6_isHere q3052 q3054 qs78 mH_o rfl rfl rfl (Nat.le_of_ble_eq_true rfl) (Nat.le_of_ble_eq_true rfl) (by omega) ?_
    rintro _ _ - - ⟨rfl, rfl⟩
    refine aft_v (pc2 := 7) ?_ rfl
    rw [e]
    refine wa_if_ne (pc := 7) 14 dX6_sign_7 rfl (fun hb7 => ?_) (fun hb7 => absurd hb7 (by decide))
    refine wa_iconst (pc := 14) (y := mX6_sign) (Int32.ofNat 0) dX6_sign_14 rfl ?_
    refine wa_putf (pc := 15) (y := mX6_sign) (k := 5) 12 .boolean dX6_sign_15 mH_o rfl q2655 (Or.inl rfl) (Nat.le_of_ble_eq_true rfl) rfl (by decide +kernel) rfl rfl ?_
    rw [mW_o12, show mV (TX σ p w E K N) 12 (Int32.ofNat 0) = TX σ p false E K N from TX_w σ p w false E K N]
    first | refine wa_aload_n (pc := 18) (y := mX6_sign) dX6_sign_18 rfl ?_ | refine wa_aload_nN (pc := 18) (y := mX6_sign) dX6_sign_18 rfl ?_ | refine wa_aload_nq (pc := 18) (y := mX6_sign) dX6_sign_18 rfl ?_
    refine wa_dup (pc := 19) (y := mX6_sign) dX6_sign_19 rfl ?_
    refine wa_getf (pc := 20) (y := mX6_sign) (k := 5) 11 dX6_sign_20 mH_o rfl q2654 (Or.inl rfl) (Nat.le_of_ble_eq_true rfl) (by rfl) ?_
    rw [show (TX σ p false E K N).2 11 = Int32.ofNat p from rfl]
    first | refine wa_aload_n (pc := 23) (y := mX6_sign) dX6_sign_23 rfl ?_ | refine wa_aload_nN (pc := 23) (y := mX6_sign) dX6_sign_23 rfl ?_ | refine wa_aload_nq (pc := 23) (y := mX6_sign) dX6_sign_23 rfl ?_
    refine wa_getf (pc := 24) (y := mX6_sign) (k := 5) 12 dX6_sign_24 mH_o rfl q2655 (Or.inl rfl) (Nat.le_of_ble_eq_true rfl) (by rfl) ?_
    rw [show (TX σ p false E K N).2 12 = bI false from rfl]
    refine wa_if_eq (pc := 27) 34 dX6_sign_27 rfl (fun hb27 => ?_) (fun hb27 => absurd rfl hb27)
    refine wa_iconst (pc := 34) (y := mX6_sign) (Int32.ofNat 1) dX6_sign_34 rfl ?_
    first | with_reducible refine wa_iaddN (pc := 35) (y := mX6_sign) dX6_sign_35 ?_ | refine wa_iadd (pc := 35) (y := mX6_sign) dX6_sign_35 ?_
    refine wa_putf (pc := 36) (y := mX6_sign) (k := 5) 11 .int dX6_sign_36 mH_o rfl q2654 (Or.inl rfl) (Nat.le_of_ble_eq_true rfl) rfl (by decide +kernel) rfl rfl ?_
    rw [mW_o11, TX_p]
    exact wa_return (pc := 39) (y := mX6_sign) dX6_sign_39 rfl ⟨rfl, rfl⟩
  | false =>
    first | refine wa_aload_n (pc := 0) (y := mX6_sign) dX6_sign_0 rfl ?_ | refine wa_aload_nN (pc := 0) (y := mX6_sign) dX6_sign_0 rfl ?_ | refine wa_aload_nq (pc := 0) (y := mX6_sign) dX6_sign_0 rfl ?_
    first | refine wa_aload_n (pc := 1) (y := mX6_sign) dX6_sign_1 rfl ?_ | refine wa_aload_nN (pc := 1) (y := mX6_sign) dX6_sign_1 rfl ?_ | refine wa_aload_nq (pc := 1) (y := mX6_sign) dX6_sign_1 rfl ?_
    refine wa_iload_n (pc := 2) (y := mX6_sign) dX6_sign_2 rfl ?_
    refine wa_iload_n (pc := 3) (y := mX6_sign) dX6_sign_3 rfl ?_
    refine wa_callV (pc := 4) (s_X6_isHere (d := d - 1) (by omega) hL hL6 hp) dX6_sign_4 okX6_isHere q3052 q3054 qs78 mH_o rfl rfl rfl (Nat.le_of_ble_eq_true rfl) (Nat.le_of_ble_eq_true rfl) (by omega) ?_
    rintro _ _ - - ⟨rfl, rfl⟩
    refine aft_v (pc2 := 7) ?_ rfl
    rw [e]
    refine wa_if_ne (pc := 7) 14 dX6_sign_7 rfl (fun hb7 => absurd rfl hb7) (fun hb7 => ?_)
    refine wa_iconst (pc := 10) (y := mX6_sign) (Int32.ofNat 1) dX6_sign_10 rfl ?_
    refine wa_goto (pc := 11) (y := mX6_sign) 15 dX6_sign_11 rfl ?_
    refine wa_putf (pc := 15) (y := mX6_sign) (k := 5) 12 .boolean dX6_sign_15 mH_o rfl q2655 (Or.inl rfl) (Nat.le_of_ble_eq_true rfl) rfl (by decide +kernel) rfl rfl ?_
    rw [mW_o12, show mV (TX σ p w E K N) 12 (Int32.ofNat 1) = TX σ p true E K N from TX_w σ p w true E K N]
    first | refine wa_aload_n (pc := 18) (y := mX6_sign) dX6_sign_18 rfl ?_ | refine wa_aload_nN (pc := 18) (y := mX6_sign) dX6_sign_18 rfl ?_ | refine wa_aload_nq (pc := 18) (y := mX6_sign) dX6_sign_18 rfl ?_
    refine wa_dup (pc := 19) (y := mX6_sign) dX6_sign_19 rfl ?_
    refine wa_getf (pc := 20) (y := mX6_sign) (k := 5) 11 dX6_sign_20 mH_o rfl q2654 (Or.inl rfl) (Nat.le_of_ble_eq_true rfl) (by rfl) ?_
    rw [show (TX σ p true E K N).2 11 = Int32.ofNat p from rfl]
    first | refine wa_aload_n (pc := 23) (y := mX6_sign) dX6_sign_23 rfl ?_ | refine wa_aload_nN (pc := 23) (y := mX6_sign) dX6_sign_23 rfl ?_ | refine wa_aload_nq (pc := 23) (y := mX6_sign) dX6_sign_23 rfl ?_
    refine wa_getf (pc := 24) (y := mX6_sign) (k := 5) 12 dX6_sign_24 mH_o rfl q2655 (Or.inl rfl) (Nat.le_of_ble_eq_true rfl) (by rfl) ?_
    rw [show (TX σ p true E K N).2 12 = bI true from rfl]
    refine wa_if_eq (pc := 27) 34 dX6_sign_27 rfl (fun hb27 => absurd hb27 (by decide)) (fun hb27 => ?_)
    refine wa_iconst (pc := 30) (y := mX6_sign) (Int32.ofNat 0) dX6_sign_30 rfl ?_
    refine wa_goto (pc := 31) (y := mX6_sign) 35 dX6_sign_31 rfl ?_
    first | with_reducible refine wa_iaddN (pc := 35) (y := mX6_sign) dX6_sign_35 ?_ | refine wa_iadd (pc := 35) (y := mX6_sign) dX6_sign_35 ?_
    refine wa_putf (pc := 36) (y := mX6_sign) (k := 5) 11 .int dX6_sign_36 mH_o rfl q2654 (Or.inl rfl) (Nat.le_of_ble_eq_true rfl) rfl (by decide +kernel) rfl rfl ?_
    rw [mW_o11, TX_p]
    exact wa_return (pc := 39) (y := mX6_sign) dX6_sign_39 rfl ⟨rfl, rfl⟩
theorem s_X6_number {dg : Nat} (hd : 2 ≤ d) (hdg : dg ≤ 9) (hL : σ.2 10 = Int32.ofNat L) (hL6 : L ≤ 60) (hp : p ≤ L) : MA G d mX6_number [.ref m, .int (Int32.ofNat dg)] (mH h m f (TX σ p w E K N)) (fun r h' => r = .inl (some (.int (nuT (σ.1 9) L dg p w).1)) ∧ h' = mH h m f (TX σ (nuT (σ.1 9) L dg p w).2.1 (nuT (σ.1 9) L dg p w).2.2 E K N)) := by
  show WA _ _ _ 0 [.ref m, .int _, .retAddr 0, .retAddr 0] [] _ _
  unfold nuT
  have loop : ∀ w2 t k p a, k + t = dg → p ≤ L → WA G d mX6_number 24 [.ref m, .int (Int32.ofNat dg), .int a, .int (Int32.ofNat k)] [] (mH h m f (TX σ p w2 E K N)) (fun r h' => r = .inl (some (.int (ngT (σ.1 9) L w2 t p a).1)) ∧ h' = mH h m f (TX σ (ngT (σ.1 9) L w2 t p a).2 w2 E K N)) := by
    intro w2 t
    induction t with
    | zero =>
      intro k p a hk hp
      obtain rfl : k = dg := hk
      refine wa_iload_n (pc := 24) (y := mX6_number) dX6_number_24 rfl ?_
      refine wa_iload_n (pc := 25) (y := mX6_number) dX6_number_25 rfl ?_
      refine wa_icmp_ge (pc := 26) 74 dX6_number_26 rfl (fun hb26 => ?_) (fun hb26 => absurd (Int32.le_refl _) hb26)
      refine wa_iload_n (pc := 74) (y := mX6_number) dX6_number_74 rfl ?_
      exact wa_ireturn (pc := 75) (y := mX6_number) .int dX6_number_75 rfl rfl ⟨rfl, rfl⟩
    | succ t ih =>
      intro k p a hk hp
      cases e : hrB (σ.1 9) L p w2 48 57 with
      | true =>
        have hlt := hrB_lt e
        rw [show ngT (σ.1 9) L w2 (t + 1) p a = ngT (σ.1 9) L w2 t (p + 1) (10 * a + σ.1 9 p - 48) from if_pos e]
        refine wa_iload_n (pc := 24) (y := mX6_number) dX6_number_24 rfl ?_
        refine wa_iload_n (pc := 25) (y := mX6_number) dX6_number_25 rfl ?_
        refine wa_icmp_ge (pc := 26) 74 dX6_number_26 rfl (fun hb26 => absurd ((iN_le (by omega) (by omega)).mp hb26) (by omega)) (fun hb26 => ?_)
        first | refine wa_aload_n (pc := 29) (y := mX6_number) dX6_number_29 rfl ?_ | refine wa_aload_nN (pc := 29) (y := mX6_number) dX6_number_29 rfl ?_ | refine wa_aload_nq (pc := 29) (y := mX6_number) dX6_number_29 rfl ?_
        refine wa_bipush (pc := 30) (y := mX6_number) (Int32.ofNat 48) dX6_number_30 rfl ?_
        refine wa_bipush (pc := 32) (y := mX6_number) (Int32.ofNat 57) dX6_number_32 rfl ?_
        refine wa_callV (pc := 34) (s_X6_isHere (d := d - 1) (by omega) hL hL6 hp) dX6_number_34 okX6_isHere q3052 q3054 qs78 mH_o rfl rfl rfl (Nat.le_of_ble_eq_true rfl) (Nat.le_of_ble_eq_true rfl) (by omega) ?_
        rintro _ _ - - ⟨rfl, rfl⟩
        refine aft_v (pc2 := 37) ?_ rfl
        rw [show hrB (σ.1 9) L p w2 (Int32.ofNat 48) (Int32.ofNat 57) = true from e]
        refine wa_if_eq (pc := 37) 74 dX6_number_37 rfl (fun hb37 => absurd hb37 (by decide)) (fun hb37 => ?_)
        refine wa_bipush (pc := 40) (y := mX6_number) (Int32.ofNat 10) dX6_number_40 rfl ?_
        refine wa_iload_n (pc := 42) (y := mX6_number) dX6_number_42 rfl ?_
        first | with_reducible refine wa_imulN (pc := 43) (y := mX6_number) dX6_number_43 ?_ | refine wa_imul (pc := 43) (y := mX6_number) dX6_number_43 ?_
        first | refine wa_aload_n (pc := 44) (y := mX6_number) dX6_number_44 rfl ?_ | refine wa_aload_nN (pc := 44) (y := mX6_number) dX6_number_44 rfl ?_ | refine wa_aload_nq (pc := 44) (y := mX6_number) dX6_number_44 rfl ?_
        refine wa_getf (pc := 45) (y := mX6_number) (k := 5) 9 dX6_number_45 mH_o rfl q2652 (Or.inl rfl) (Nat.le_of_ble_eq_true rfl) (by rfl) ?_
        first | refine wa_aload_n (pc := 48) (y := mX6_number) dX6_number_48 rfl ?_ | refine wa_aload_nN (pc := 48) (y := mX6_number) dX6_number_48 rfl ?_ | refine wa_aload_nq (pc := 48) (y := mX6_number) dX6_number_48 rfl ?_
        refine wa_getf (pc := 49) (y := mX6_number) (k := 5) 11 dX6_number_49 mH_o rfl q2654 (Or.inl rfl) (Nat.le_of_ble_eq_true rfl) (by rfl) ?_
        rw [show (TX σ p w2 E K N).2 11 = Int32.ofNat p from rfl]
        refine wa_caloadN (pc := 52) (y := mX6_number) dX6_number_52 mH_6 (by omega) ?_
        first | with_reducible refine wa_iaddN (pc := 53) (y := mX6_number) dX6_number_53 ?_ | refine wa_iadd (pc := 53) (y := mX6_number) dX6_number_53 ?_
        refine wa_bipush (pc := 54) (y := mX6_number) (Int32.ofNat 48) dX6_number_54 rfl ?_
        refine wa_isub (pc := 56) (y := mX6_number) dX6_number_56 ?_
        refine wa_istore_n (pc := 57) (y := mX6_number) dX6_number_57 (Nat.le_of_ble_eq_true rfl) rfl ?_
        change WA _ _ _ _ (List.set _ 2 _) _ _ _
        simp only [List.set_cons_zero, List.set_cons_succ]
        first | refine wa_aload_n (pc := 58) (y := mX6_number) dX6_number_58 rfl ?_ | refine wa_aload_nN (pc := 58) (y := mX6_number) dX6_number_58 rfl ?_ | refine wa_aload_nq (pc := 58) (y := mX6_number) dX6_number_58 rfl ?_
        refine wa_dup (pc := 59) (y := mX6_number) dX6_number_59 rfl ?_
        refine wa_getf (pc := 60) (y := mX6_number) (k := 5) 11 dX6_number_60 mH_o rfl q2654 (Or.inl rfl) (Nat.le_of_ble_eq_true rfl) (by rfl) ?_
        rw [show (TX σ p w2 E K N).2 11 = Int32.ofNat p from rfl]
        refine wa_iconst (pc := 63) (y := mX6_number) (Int32.ofNat 1) dX6_number_63 rfl ?_
        first | with_reducible refine wa_iaddN (pc := 64) (y := mX6_number) dX6_number_64 ?_ | refine wa_iadd (pc := 64) (y := mX6_number) dX6_number_64 ?_
        refine wa_putf (pc := 65) (y := mX6_number) (k := 5) 11 .int dX6_number_65 mH_o rfl q2654 (Or.inl rfl) (Nat.le_of_ble_eq_true rfl) rfl (by decide +kernel) rfl rfl ?_
        rw [mW_o11, TX_p]
        first | with_reducible refine wa_iincN (pc := 68) (y := mX6_number) dX6_number_68 rfl (Nat.le_of_ble_eq_true rfl) rfl ?_ | refine wa_iinc (pc := 68) (y := mX6_number) (1) dX6_number_68 rfl rfl (Nat.le_of_ble_eq_true rfl) rfl ?_
        simp only [List.set_cons_zero, List.set_cons_succ]
        refine wa_goto (pc := 71) (y := mX6_number) 24 dX6_number_71 rfl ?_
        exact ih (k + 1) (p + 1) _ (by omega) hlt
      | false =>
        rw [show ngT (σ.1 9) L w2 (t + 1) p a = (a, p) from if_neg (by rw [e]; decide)]
        refine wa_iload_n (pc := 24) (y := mX6_number) dX6_number_24 rfl ?_
        refine wa_iload_n (pc := 25) (y := mX6_number) dX6_number_25 rfl ?_
        refine wa_icmp_ge (pc := 26) 74 dX6_number_26 rfl (fun hb26 => absurd ((iN_le (by omega) (by omega)).mp hb26) (by omega)) (fun hb26 => ?_)
        first | refine wa_aload_n (pc := 29) (y := mX6_number) dX6_number_29 rfl ?_ | refine wa_aload_nN (pc := 29) (y := mX6_number) dX6_number_29 rfl ?_ | refine wa_aload_nq (pc := 29) (y := mX6_number) dX6_number_29 rfl ?_
        refine wa_bipush (pc := 30) (y := mX6_number) (Int32.ofNat 48) dX6_number_30 rfl ?_
        refine wa_bipush (pc := 32) (y := mX6_number) (Int32.ofNat 57) dX6_number_32 rfl ?_
        refine wa_callV (pc := 34) (s_X6_isHere (d := d - 1) (by omega) hL hL6 hp) dX6_number_34 okX6_isHere q3052 q3054 qs78 mH_o rfl rfl rfl (Nat.le_of_ble_eq_true rfl) (Nat.le_of_ble_eq_true rfl) (by omega) ?_
        rintro _ _ - - ⟨rfl, rfl⟩
        refine aft_v (pc2 := 37) ?_ rfl
        rw [show hrB (σ.1 9) L p w2 (Int32.ofNat 48) (Int32.ofNat 57) = false from e]
        refine wa_if_eq (pc := 37) 74 dX6_number_37 rfl (fun hb37 => ?_) (fun hb37 => absurd rfl hb37)
        refine wa_iload_n (pc := 74) (y := mX6_number) dX6_number_74 rfl ?_
        exact wa_ireturn (pc := 75) (y := mX6_number) .int dX6_number_75 rfl rfl ⟨rfl, rfl⟩
  cases e : hrB (σ.1 9) L p w 48 57 with
  | true =>
    first | refine wa_aload_n (pc := 0) (y := mX6_number) dX6_number_0 rfl ?_ | refine wa_aload_nN (pc := 0) (y := mX6_number) dX6_number_0 rfl ?_ | refine wa_aload_nq (pc := 0) (y := mX6_number) dX6_number_0 rfl ?_
    first | refine wa_aload_n (pc := 1) (y := mX6_number) dX6_number_1 rfl ?_ | refine wa_aload_nN (pc := 1) (y := mX6_number) dX6_number_1 rfl ?_ | refine wa_aload_nq (pc := 1) (y := mX6_number) dX6_number_1 rfl ?_
    refine wa_bipush (pc := 2) (y := mX6_number) (Int32.ofNat 48) dX6_number_2 rfl ?_
    refine wa_bipush (pc := 4) (y := mX6_number) (Int32.ofNat 57) dX6_number_4 rfl ?_
    refine wa_callV (pc := 6) (s_X6_isHere (d := d - 1) (by omega) hL hL6 hp) dX6_number_6 okX6_isHere q3052 q3054 qs78 mH_o rfl rfl rfl (Nat.le_of_ble_eq_true rfl) (Nat.le_of_ble_eq_true rfl) (by omega) ?_
    rintro _ _ - - ⟨rfl, rfl⟩
    refine aft_v (pc2 := 9) ?_ rfl
    rw [show hrB (σ.1 9) L p w (Int32.ofNat 48) (Int32.ofNat 57) = true from e]
    refine wa_if_ne (pc := 9) 16 dX6_number_9 rfl (fun hb9 => ?_) (fun hb9 => absurd hb9 (by decide))
    refine wa_iconst (pc := 16) (y := mX6_number) (Int32.ofNat 0) dX6_number_16 rfl ?_
    refine wa_putf (pc := 17) (y := mX6_number) (k := 5) 12 .boolean dX6_number_17 mH_o rfl q2655 (Or.inl rfl) (Nat.le_of_ble_eq_true rfl) rfl (by decide +kernel) rfl rfl ?_
    rw [mW_o12, show mV (TX σ p w E K N) 12 (Int32.ofNat 0) = TX σ p false E K N from TX_w σ p w false E K N]
    refine wa_iconst (pc := 20) (y := mX6_number) (Int32.ofNat 0) dX6_number_20 rfl ?_
    refine wa_istore_n (pc := 21) (y := mX6_number) dX6_number_21 (Nat.le_of_ble_eq_true rfl) rfl ?_
    change WA _ _ _ _ (List.set _ 2 _) _ _ _
    simp only [List.set_cons_zero, List.set_cons_succ]
    refine wa_iconst (pc := 22) (y := mX6_number) (Int32.ofNat 0) dX6_number_22 rfl ?_
    refine wa_istore_n (pc := 23) (y := mX6_number) dX6_number_23 (Nat.le_of_ble_eq_true rfl) rfl ?_
    change WA _ _ _ _ (List.set _ 3 _) _ _ _
    simp only [List.set_cons_zero, List.set_cons_succ]
    exact loop false dg 0 p 0 (by omega) hp
  | false =>
    first | refine wa_aload_n (pc := 0) (y := mX6_number) dX6_number_0 rfl ?_ | refine wa_aload_nN (pc := 0) (y := mX6_number) dX6_number_0 rfl ?_ | refine wa_aload_nq (pc := 0) (y := mX6_number) dX6_number_0 rfl ?_
    first | refine wa_aload_n (pc := 1) (y := mX6_number) dX6_number_1 rfl ?_ | refine wa_aload_nN (pc := 1) (y := mX6_number) dX6_number_1 rfl ?_ | refine wa_aload_nq (pc := 1) (y := mX6_number) dX6_number_1 rfl ?_
    refine wa_bipush (pc := 2) (y := mX6_number) (Int32.ofNat 48) dX6_number_2 rfl ?_
    refine wa_bipush (pc := 4) (y := mX6_number) (Int32.ofNat 57) dX6_number_4 rfl ?_
    refine wa_callV (pc := 6) (s_X6_isHere (d := d - 1) (by omega) hL hL6 hp) dX6_number_6 okX6_isHere q3052 q3054 qs78 mH_o rfl rfl rfl (Nat.le_of_ble_eq_true rfl) (Nat.le_of_ble_eq_true rfl) (by omega) ?_
    rintro _ _ - - ⟨rfl, rfl⟩
    refine aft_v (pc2 := 9) ?_ rfl
    rw [show hrB (σ.1 9) L p w (Int32.ofNat 48) (Int32.ofNat 57) = false from e]
    refine wa_if_ne (pc := 9) 16 dX6_number_9 rfl (fun hb9 => absurd rfl hb9) (fun hb9 => ?_)
    refine wa_iconst (pc := 12) (y := mX6_number) (Int32.ofNat 1) dX6_number_12 rfl ?_
    refine wa_goto (pc := 13) (y := mX6_number) 17 dX6_number_13 rfl ?_
    refine wa_putf (pc := 17) (y := mX6_number) (k := 5) 12 .boolean dX6_number_17 mH_o rfl q2655 (Or.inl rfl) (Nat.le_of_ble_eq_true rfl) rfl (by decide +kernel) rfl rfl ?_
    rw [mW_o12, show mV (TX σ p w E K N) 12 (Int32.ofNat 1) = TX σ p true E K N from TX_w σ p w true E K N]
    refine wa_iconst (pc := 20) (y := mX6_number) (Int32.ofNat 0) dX6_number_20 rfl ?_
    refine wa_istore_n (pc := 21) (y := mX6_number) dX6_number_21 (Nat.le_of_ble_eq_true rfl) rfl ?_
    change WA _ _ _ _ (List.set _ 2 _) _ _ _
    simp only [List.set_cons_zero, List.set_cons_succ]
    refine wa_iconst (pc := 22) (y := mX6_number) (Int32.ofNat 0) dX6_number_22 rfl ?_
    refine wa_istore_n (pc := 23) (y := mX6_number) dX6_number_23 (Nat.le_of_ble_eq_true rfl) rfl ?_
    change WA _ _ _ _ (List.set _ 3 _) _ _ _
    simp only [List.set_cons_zero, List.set_cons_succ]
    exact loop true dg 0 p 0 (by omega) hp
theorem s_X6_behind {c : Int32} {dg : Nat} (hd : 3 ≤ d) (hdg : dg ≤ 9) (hL : σ.2 10 = Int32.ofNat L) (hL6 : L ≤ 60) (hp : p ≤ L) : MA G d mX6_behind [.ref m, .int c, .int (Int32.ofNat dg)] (mH h m f (TX σ p w E K N)) (fun r h' => r = .inl (some (.int (bhT (σ.1 9) L c dg p w).1)) ∧ h' = mH h m f (TX σ (bhT (σ.1 9) L c dg p w).2.1 (bhT (σ.1 9) L c dg p w).2.2 E K N)) := by
  show WA _ _ _ 0 [.ref m, .int _, .int _] [] _ _
  unfold bhT
  first | refine wa_aload_n (pc := 0) (y := mX6_behind) dX6_behind_0 rfl ?_ | refine wa_aload_nN (pc := 0) (y := mX6_behind) dX6_behind_0 rfl ?_ | refine wa_aload_nq (pc := 0) (y := mX6_behind) dX6_behind_0 rfl ?_
  refine wa_iload_n (pc := 1) (y := mX6_behind) dX6_behind_1 rfl ?_
  refine wa_callV (pc := 2) (s_X6_sign (d := d - 1) (by omega) hL hL6 hp) dX6_behind_2 okX6_sign q3060 q3062 qs80 mH_o rfl rfl rfl (Nat.le_of_ble_eq_true rfl) (Nat.le_of_ble_eq_true rfl) (by omega) ?_
  rintro _ _ - - ⟨rfl, rfl⟩
  refine aft_0 (pc2 := 5) ?_ rfl
  first | refine wa_aload_n (pc := 5) (y := mX6_behind) dX6_behind_5 rfl ?_ | refine wa_aload_nN (pc := 5) (y := mX6_behind) dX6_behind_5 rfl ?_ | refine wa_aload_nq (pc := 5) (y := mX6_behind) dX6_behind_5 rfl ?_
  refine wa_iload_n (pc := 6) (y := mX6_behind) dX6_behind_6 rfl ?_
  refine wa_callV (pc := 7) (s_X6_number (d := d - 1) (by omega) hdg hL hL6 (snT_le hp)) dX6_behind_7 okX6_number q3048 q3050 qs77 mH_o rfl rfl rfl (Nat.le_of_ble_eq_true rfl) (Nat.le_of_ble_eq_true rfl) (by omega) ?_
  rintro _ _ - - ⟨rfl, rfl⟩
  refine aft_v (pc2 := 10) ?_ rfl
  exact wa_ireturn (pc := 10) (y := mX6_behind) .int dX6_behind_10 rfl rfl ⟨rfl, rfl⟩
end MTEXT
