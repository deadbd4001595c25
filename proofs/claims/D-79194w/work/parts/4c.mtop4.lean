/-! ===== CueStackModel: its calls, fourth part ===== -/
theorem plg_at {f : Nat → Int32} {cue : Int32} {p : Nat} (hc : f (18 + 12 * p) = cue) : ∀ {t k : Nat}, k ≤ p → p < k + t → (∀ i, k ≤ i → i < p → f (18 + 12 * i) ≠ cue) → plg f cue t k = some p
  | 0, k, h1, h2, _ => by omega
  | t + 1, k, h1, h2, h3 => by
    unfold plg
    by_cases e : k = p
    · rw [e, if_pos hc]
    · rw [if_neg (h3 k (Nat.le_refl _) (by omega))]
      exact plg_at hc (by omega) (by omega) fun i a b => h3 i (by omega) b
theorem pl_at {f : Nat → Int32} {p : Nat} (hI : Inv f) (hp : p < u (f 0)) : pl f (f (18 + 12 * p)) = some p :=
  plg_at rfl (Nat.zero_le _) (by omega) fun i _ h2 e => by
    have := hI.2.2.2.2.2 i p h2 hp
    rw [e] at this
    exact Int32.lt_irrefl this
theorem nxg_at {f : Nat → Int32} {n : Int32} {p : Nat} (hc : n < f (18 + 12 * p)) : ∀ {t k : Nat}, k ≤ p → p < k + t → (∀ i, k ≤ i → i < p → ¬ n < f (18 + 12 * i)) → nxg f n t k = f (18 + 12 * p)
  | 0, k, h1, h2, _ => by omega
  | t + 1, k, h1, h2, h3 => by
    unfold nxg
    by_cases e : k = p
    · rw [e, if_pos hc]
    · rw [if_neg (h3 k (Nat.le_refl _) (by omega))]
      exact nxg_at hc (by omega) (by omega) fun i a b => h3 i (by omega) b
theorem nxg_no {f : Nat → Int32} {n : Int32} : ∀ {t k : Nat}, (∀ i, k ≤ i → i < k + t → ¬ n < f (18 + 12 * i)) → nxg f n t k = 0
  | 0, _, _ => rfl
  | t + 1, k, h => by
    unfold nxg
    rw [if_neg (h k (Nat.le_refl _) (by omega))]
    exact nxg_no fun i a b => h i (by omega) (by omega)
theorem srt_le {f : Nat → Int32} (hI : Inv f) {i p : Nat} (h : i ≤ p) (hp : p < u (f 0)) : f (18 + 12 * i) ≤ f (18 + 12 * p) := by
  rcases Nat.lt_or_ge i p with q | q
  · exact Int32.le_of_lt (hI.2.2.2.2.2 i p q hp)
  · rw [show i = p by omega]
    exact Int32.le_refl _
theorem nx_at {f : Nat → Int32} {p : Nat} (hI : Inv f) (hp : p < u (f 0)) : nx f (f (18 + 12 * p)) = if p + 1 < u (f 0) then f (18 + 12 * (p + 1)) else 0 := by
  unfold nx
  split
  · rename_i e
    exact nxg_at (hI.2.2.2.2.2 p (p + 1) (by omega) e) (Nat.zero_le _) (by omega) fun i _ h2 => Int32.not_lt.mpr (srt_le hI (by omega) hp)
  · rename_i e
    exact nxg_no fun i _ h2 => Int32.not_lt.mpr (srt_le hI (by omega) hp)
theorem num_pos {f : Nat → Int32} {p : Nat} (hI : Inv f) (hp : p < u (f 0)) : 0 < f (18 + 12 * p) := Int32.lt_of_lt_of_le (by decide) (hI.2.2.2.2.1 p hp).1.1
def chG (f : Nat → Int32) : Nat → Nat → Int32 → Int32
  | 0, _, a => a
  | t + 1, p, a => if 0 < f (18 + 12 * p + 1) ∧ p + 1 < u (f 0) then chG f t (p + 1) (a + f (18 + 12 * p + 1)) else a
def O_chain (f : Nat → Int32) (σ : MS) (cue : Int32) : OO := match pl f cue with
  | none => oX f σ 1
  | some p => oR f σ (chG f 12 p 0)
def accV (f : Nat → Int32) : Nat → Int32
  | 0 => f 0
  | 1 => f 1
  | 2 => smN (ovcG f 2) 12
  | 3 => smN (ovcG f 3) 12
  | 4 => smN (ovcG f 4) 12
  | 5 => f 4
  | 6 => f 5
  | 7 => ovkN f 7 (u (f 0))
  | 8 => ovkN f 8 (u (f 0))
  | 9 => ovkN f 9 (u (f 0))
  | _ => smN (relG f) (u (f 1))
def O_account (f : Nat → Int32) (σ : MS) (w : Int32) : OO := if ¬ u w ≤ 10 then oX f σ 1 else oR f σ (accV f (u w))
def O_append (f : Nat → Int32) (σ : MS) (c : Int32) : OO := if inb c 32 126 = false then oX f σ 1 else if u (σ.2 10) = 60 then oX f σ 2 else
  (0, Int32.ofNat (u (σ.2 10) + 1), f, mV (mA (mV σ 7 (Int32.ofNat 0)) 9 (upd (σ.1 9) (u (σ.2 10)) c)) 10 (Int32.ofNat (u (σ.2 10) + 1)))
def O_errorPosition (f : Nat → Int32) (σ : MS) : OO := if σ.2 13 < 0 then oX f σ 1 else oR f σ (σ.2 13)
def O_undo (f : Nat → Int32) (σ : MS) : OO := if u (σ.2 5) = 0 then oX f σ 1 else
  (0, Int32.ofNat (u (σ.2 5) - 1), (fun j => σ.1 4 (462 * (u (σ.2 5) - 1) + j)), mV (mV σ 7 (Int32.ofNat 0)) 5 (Int32.ofNat (u (σ.2 5) - 1)))
def O_save (f : Nat → Int32) (σ : MS) : OO := (0, f 0, f, mV (mA (mV σ 7 (Int32.ofNat 0)) 2 f) 3 (Int32.ofNat 1))
def O_restore (f : Nat → Int32) (σ : MS) : OO := if σ.2 3 = 0 then oX f σ 1 else (0, σ.1 2 0, σ.1 2, mV (mV σ 7 (Int32.ofNat 0)) 5 (Int32.ofNat 0))
section MTOP4
variable {G : GG} {d : Nat} {h : AH} {m : Nat} {f : Nat → Int32} {σ : MS}
theorem s_X6_cue {cue w : Int32} (hd : 4 ≤ d) (hI : Inv f) : MA G d mX6_cue [.ref m, .int cue, .int w] (mH h m f σ) (fun r h' => r = .inl (some (.int (O_cue f σ cue w).2.1)) ∧ h' = mH h m (O_cue f σ cue w).2.2.1 (O_cue f σ cue w).2.2.2) := by
  have hn := hI.1
  show WA _ _ _ 0 [.ref m, .int _, .int _, .retAddr 0, .retAddr 0, .retAddr 0, .retAddr 0] [] _ _
  cases hp : pl f cue with
  | none =>
    rw [show O_cue f σ cue w = oX f σ 1 by unfold O_cue; rw [hp]]
    first | refine wa_aload_n (pc := 0) (y := mX6_cue) dX6_cue_0 rfl ?_ | refine wa_aload_nN (pc := 0) (y := mX6_cue) dX6_cue_0 rfl ?_ | refine wa_aload_nq (pc := 0) (y := mX6_cue) dX6_cue_0 rfl ?_
    first | refine wa_aload_n (pc := 1) (y := mX6_cue) dX6_cue_1 rfl ?_ | refine wa_aload_nN (pc := 1) (y := mX6_cue) dX6_cue_1 rfl ?_ | refine wa_aload_nq (pc := 1) (y := mX6_cue) dX6_cue_1 rfl ?_
    refine wa_iload_n (pc := 2) (y := mX6_cue) dX6_cue_2 rfl ?_
    refine wa_callV (pc := 3) (s_X6_isCue (d := d - 1) (by omega) hI) dX6_cue_3 okX6_isCue q2719 q2721 qs41 mH_o rfl rfl rfl (Nat.le_of_ble_eq_true rfl) (Nat.le_of_ble_eq_true rfl) (by omega) ?_
    rintro _ _ - - ⟨rfl, rfl⟩
    refine aft_v (pc2 := 6) ?_ rfl
    rw [isC_none hp]
    refine wa_if_ne (pc := 6) 13 dX6_cue_6 rfl (fun hb6 => absurd rfl hb6) (fun hb6 => ?_)
    refine wa_iconst (pc := 9) (y := mX6_cue) (Int32.ofNat 1) dX6_cue_9 rfl ?_
    refine wa_goto (pc := 10) (y := mX6_cue) 28 dX6_cue_10 rfl ?_
    refine wa_putf (pc := 28) (y := mX6_cue) (k := 5) 7 .int dX6_cue_28 mH_o rfl q2650 (Or.inl rfl) (Nat.le_of_ble_eq_true rfl) rfl (by decide +kernel) rfl rfl ?_
    rw [mW_o7]
    first | refine wa_aload_n (pc := 31) (y := mX6_cue) dX6_cue_31 rfl ?_ | refine wa_aload_nN (pc := 31) (y := mX6_cue) dX6_cue_31 rfl ?_ | refine wa_aload_nq (pc := 31) (y := mX6_cue) dX6_cue_31 rfl ?_
    refine wa_getf (pc := 32) (y := mX6_cue) (k := 5) 7 dX6_cue_32 mH_o rfl q2650 (Or.inl rfl) (Nat.le_of_ble_eq_true rfl) (by rfl) ?_
    show WA _ _ _ _ _ (.int (Int32.ofNat 1) :: _) _ _
    refine wa_if_le (pc := 35) 40 dX6_cue_35 rfl (fun hb35 => absurd hb35 (by decide)) (fun hb35 => ?_)
    clear hb35
    refine wa_iconst (pc := 38) (y := mX6_cue) (Int32.ofNat 0) dX6_cue_38 rfl ?_
    exact wa_ireturn (pc := 39) (y := mX6_cue) .int dX6_cue_39 rfl rfl ⟨rfl, rfl⟩
  | some p =>
    have hps := pl_some hp
    by_cases e0 : u w ≤ 6
    · have upto : ∀ v : Int32, WA G d mX6_cue 46 [.ref m, .int cue, .int w, .int (Int32.ofNat p), .retAddr 0, .retAddr 0, .retAddr 0] [] (mH h m f (mV σ 7 (Int32.ofNat 0))) (fun r h' => r = .inl (some (.int v)) ∧ h' = mH h m f (mV σ 7 (Int32.ofNat 0))) → WA G d mX6_cue 0 [.ref m, .int cue, .int w, .retAddr 0, .retAddr 0, .retAddr 0, .retAddr 0] [] (mH h m f σ) (fun r h' => r = .inl (some (.int (oR f σ v).2.1)) ∧ h' = mH h m (oR f σ v).2.2.1 (oR f σ v).2.2.2) := by
        intro v K
        first | refine wa_aload_n (pc := 0) (y := mX6_cue) dX6_cue_0 rfl ?_ | refine wa_aload_nN (pc := 0) (y := mX6_cue) dX6_cue_0 rfl ?_ | refine wa_aload_nq (pc := 0) (y := mX6_cue) dX6_cue_0 rfl ?_
        first | refine wa_aload_n (pc := 1) (y := mX6_cue) dX6_cue_1 rfl ?_ | refine wa_aload_nN (pc := 1) (y := mX6_cue) dX6_cue_1 rfl ?_ | refine wa_aload_nq (pc := 1) (y := mX6_cue) dX6_cue_1 rfl ?_
        refine wa_iload_n (pc := 2) (y := mX6_cue) dX6_cue_2 rfl ?_
        refine wa_callV (pc := 3) (s_X6_isCue (d := d - 1) (by omega) hI) dX6_cue_3 okX6_isCue q2719 q2721 qs41 mH_o rfl rfl rfl (Nat.le_of_ble_eq_true rfl) (Nat.le_of_ble_eq_true rfl) (by omega) ?_
        rintro _ _ - - ⟨rfl, rfl⟩
        refine aft_v (pc2 := 6) ?_ rfl
        rw [isC_some hp]
        refine wa_if_ne (pc := 6) 13 dX6_cue_6 rfl (fun hb6 => ?_) (fun hb6 => absurd hb6 (by decide))
        refine wa_iload_n (pc := 13) (y := mX6_cue) dX6_cue_13 rfl ?_
        refine wa_iconst (pc := 14) (y := mX6_cue) (Int32.ofNat 0) dX6_cue_14 rfl ?_
        refine wa_bipush (pc := 15) (y := mX6_cue) (Int32.ofNat 6) dX6_cue_15 rfl ?_
        refine wa_callS (pc := 17) (s_X6_in (d := d - 1)) dX6_cue_17 okX6_in q2716 q2717 rfl rfl (Nat.le_of_ble_eq_true rfl) (Nat.le_of_ble_eq_true rfl) (by omega) ?_
        rintro _ _ - - ⟨rfl, rfl⟩
        refine aft_v (pc2 := 20) ?_ rfl
        rw [show inb w (Int32.ofNat 0) (Int32.ofNat 6) = true from (inb_le (by omega)).trans (decide_eq_true e0)]
        refine wa_if_ne (pc := 20) 27 dX6_cue_20 rfl (fun hb20 => ?_) (fun hb20 => absurd hb20 (by decide))
        refine wa_iconst (pc := 27) (y := mX6_cue) (Int32.ofNat 0) dX6_cue_27 rfl ?_
        refine wa_putf (pc := 28) (y := mX6_cue) (k := 5) 7 .int dX6_cue_28 mH_o rfl q2650 (Or.inl rfl) (Nat.le_of_ble_eq_true rfl) rfl (by decide +kernel) rfl rfl ?_
        rw [mW_o7]
        first | refine wa_aload_n (pc := 31) (y := mX6_cue) dX6_cue_31 rfl ?_ | refine wa_aload_nN (pc := 31) (y := mX6_cue) dX6_cue_31 rfl ?_ | refine wa_aload_nq (pc := 31) (y := mX6_cue) dX6_cue_31 rfl ?_
        refine wa_getf (pc := 32) (y := mX6_cue) (k := 5) 7 dX6_cue_32 mH_o rfl q2650 (Or.inl rfl) (Nat.le_of_ble_eq_true rfl) (by rfl) ?_
        show WA _ _ _ _ _ (.int (Int32.ofNat 0) :: _) _ _
        refine wa_if_le (pc := 35) 40 dX6_cue_35 rfl (fun hb35 => ?_) (fun hb35 => absurd hb35 (by decide))
        clear hb35
        first | refine wa_aload_n (pc := 40) (y := mX6_cue) dX6_cue_40 rfl ?_ | refine wa_aload_nN (pc := 40) (y := mX6_cue) dX6_cue_40 rfl ?_ | refine wa_aload_nq (pc := 40) (y := mX6_cue) dX6_cue_40 rfl ?_
        refine wa_iload_n (pc := 41) (y := mX6_cue) dX6_cue_41 rfl ?_
        refine wa_callV (pc := 42) (s_X6_placeOf (d := d - 1) (by omega) hI) dX6_cue_42 okX6_placeOf q2723 q2725 qs42 mH_o rfl rfl rfl (Nat.le_of_ble_eq_true rfl) (Nat.le_of_ble_eq_true rfl) (by omega) ?_
        rintro _ _ - - ⟨rfl, rfl⟩
        refine aft_v (pc2 := 45) ?_ rfl
        rw [hp, oI_some]
        refine wa_istore_n (pc := 45) (y := mX6_cue) dX6_cue_45 (Nat.le_of_ble_eq_true rfl) rfl ?_
        change WA _ _ _ _ (List.set _ 3 _) _ _ _
        simp only [List.set_cons_zero, List.set_cons_succ]
        exact K
      have ew : w = Int32.ofNat (u w) := (u_self w).symm
      have loop : ∀ t c, c + t = 12 → WA G d mX6_cue 89 [.ref m, .int cue, .int w, .int (Int32.ofNat p), .int (orN (mvs f p) c), .int (mxN f cue p c), .int (Int32.ofNat c)] [] (mH h m f (mV σ 7 (Int32.ofNat 0))) (fun r h' => r = .inl (some (.int (if w = Int32.ofNat 5 then orN (mvs f p) 12 else mxN f cue p 12))) ∧ h' = mH h m f (mV σ 7 (Int32.ofNat 0))) := by
        intro t
        induction t with
        | zero =>
          intro c hc
          obtain rfl : c = 12 := hc
          refine wa_iload (pc := 89) (y := mX6_cue) dX6_cue_89 rfl ?_
          refine wa_bipush (pc := 91) (y := mX6_cue) (Int32.ofNat 12) dX6_cue_91 rfl ?_
          refine wa_icmp_ge (pc := 93) 135 dX6_cue_93 rfl (fun hb93 => ?_) (fun hb93 => absurd ((iN_le (by omega) (by omega)).mpr (by omega)) hb93)
          refine wa_iload_n (pc := 135) (y := mX6_cue) dX6_cue_135 rfl ?_
          refine wa_iconst (pc := 136) (y := mX6_cue) (Int32.ofNat 5) dX6_cue_136 rfl ?_
          refine wa_icmp_ne (pc := 137) 145 dX6_cue_137 rfl (fun hb137 => ?_) (fun hb137 => ?_)
          · rw [if_neg hb137]
            refine wa_iload (pc := 145) (y := mX6_cue) dX6_cue_145 rfl ?_
            exact wa_ireturn (pc := 147) (y := mX6_cue) .int dX6_cue_147 rfl rfl ⟨rfl, rfl⟩
          · rw [if_pos hb137]
            refine wa_iload (pc := 140) (y := mX6_cue) dX6_cue_140 rfl ?_
            refine wa_goto (pc := 142) (y := mX6_cue) 147 dX6_cue_142 rfl ?_
            exact wa_ireturn (pc := 147) (y := mX6_cue) .int dX6_cue_147 rfl rfl ⟨rfl, rfl⟩
        | succ t ih =>
          intro c hc
          have ihc := ih (c + 1) (by omega)
          cases em : mvs f p c with
          | false =>
            rw [show orN (mvs f p) (c + 1) = orN (mvs f p) c from by rw [orN, em]; exact Int32.or_zero] at ihc
            rw [show mxN f cue p (c + 1) = mxN f cue p c from if_neg (by rw [em]; decide)] at ihc
            refine wa_iload (pc := 89) (y := mX6_cue) dX6_cue_89 rfl ?_
            refine wa_bipush (pc := 91) (y := mX6_cue) (Int32.ofNat 12) dX6_cue_91 rfl ?_
            refine wa_icmp_ge (pc := 93) 135 dX6_cue_93 rfl (fun hb93 => absurd ((iN_le (by omega) (by omega)).mp hb93) (by omega)) (fun hb93 => ?_)
            first | refine wa_aload_n (pc := 96) (y := mX6_cue) dX6_cue_96 rfl ?_ | refine wa_aload_nN (pc := 96) (y := mX6_cue) dX6_cue_96 rfl ?_ | refine wa_aload_nq (pc := 96) (y := mX6_cue) dX6_cue_96 rfl ?_
            refine wa_iload_n (pc := 97) (y := mX6_cue) dX6_cue_97 rfl ?_
            refine wa_iload (pc := 98) (y := mX6_cue) dX6_cue_98 rfl ?_
            refine wa_callV (pc := 100) (s_X6_moves (d := d - 1) (by omega) hI hps.1 (by omega)) dX6_cue_100 okX6_moves q2793 q2795 qs51 mH_o rfl rfl rfl (Nat.le_of_ble_eq_true rfl) (Nat.le_of_ble_eq_true rfl) (by omega) ?_
            rintro _ _ - - ⟨rfl, rfl⟩
            refine aft_v (pc2 := 103) ?_ rfl
            rw [em]
            refine wa_if_eq (pc := 103) 129 dX6_cue_103 rfl (fun hb103 => ?_) (fun hb103 => absurd rfl hb103)
            first | with_reducible refine wa_iincN (pc := 129) (y := mX6_cue) dX6_cue_129 rfl (Nat.le_of_ble_eq_true rfl) rfl ?_ | refine wa_iinc (pc := 129) (y := mX6_cue) (1) dX6_cue_129 rfl rfl (Nat.le_of_ble_eq_true rfl) rfl ?_
            simp only [List.set_cons_zero, List.set_cons_succ]
            refine wa_goto (pc := 132) (y := mX6_cue) 89 dX6_cue_132 rfl ?_
            exact ihc
          | true =>
            rw [show orN (mvs f p) (c + 1) = orN (mvs f p) c ||| bit c from by rw [orN, em]; rfl] at ihc
            rw [show mxN f cue p (c + 1) = (if mxN f cue p c < lenF f cue p c then lenF f cue p c else mxN f cue p c) from if_pos em] at ihc
            refine wa_iload (pc := 89) (y := mX6_cue) dX6_cue_89 rfl ?_
            refine wa_bipush (pc := 91) (y := mX6_cue) (Int32.ofNat 12) dX6_cue_91 rfl ?_
            refine wa_icmp_ge (pc := 93) 135 dX6_cue_93 rfl (fun hb93 => absurd ((iN_le (by omega) (by omega)).mp hb93) (by omega)) (fun hb93 => ?_)
            first | refine wa_aload_n (pc := 96) (y := mX6_cue) dX6_cue_96 rfl ?_ | refine wa_aload_nN (pc := 96) (y := mX6_cue) dX6_cue_96 rfl ?_ | refine wa_aload_nq (pc := 96) (y := mX6_cue) dX6_cue_96 rfl ?_
            refine wa_iload_n (pc := 97) (y := mX6_cue) dX6_cue_97 rfl ?_
            refine wa_iload (pc := 98) (y := mX6_cue) dX6_cue_98 rfl ?_
            refine wa_callV (pc := 100) (s_X6_moves (d := d - 1) (by omega) hI hps.1 (by omega)) dX6_cue_100 okX6_moves q2793 q2795 qs51 mH_o rfl rfl rfl (Nat.le_of_ble_eq_true rfl) (Nat.le_of_ble_eq_true rfl) (by omega) ?_
            rintro _ _ - - ⟨rfl, rfl⟩
            refine aft_v (pc2 := 103) ?_ rfl
            rw [em]
            refine wa_if_eq (pc := 103) 129 dX6_cue_103 rfl (fun hb103 => absurd hb103 (by decide)) (fun hb103 => ?_)
            refine wa_iload (pc := 106) (y := mX6_cue) dX6_cue_106 rfl ?_
            refine wa_iconst (pc := 108) (y := mX6_cue) (Int32.ofNat 1) dX6_cue_108 rfl ?_
            refine wa_iload (pc := 109) (y := mX6_cue) dX6_cue_109 rfl ?_
            refine wa_ishl (pc := 111) (y := mX6_cue) dX6_cue_111 ?_
            refine wa_ior (pc := 112) (y := mX6_cue) dX6_cue_112 ?_
            refine wa_istore (pc := 113) (y := mX6_cue) dX6_cue_113 (Nat.le_of_ble_eq_true rfl) rfl ?_
            simp only [List.set_cons_zero, List.set_cons_succ]
            refine wa_iload (pc := 115) (y := mX6_cue) dX6_cue_115 rfl ?_
            first | refine wa_aload_n (pc := 117) (y := mX6_cue) dX6_cue_117 rfl ?_ | refine wa_aload_nN (pc := 117) (y := mX6_cue) dX6_cue_117 rfl ?_ | refine wa_aload_nq (pc := 117) (y := mX6_cue) dX6_cue_117 rfl ?_
            refine wa_iload_n (pc := 118) (y := mX6_cue) dX6_cue_118 rfl ?_
            refine wa_iload (pc := 119) (y := mX6_cue) dX6_cue_119 rfl ?_
            refine wa_callV (pc := 121) (s_X6_lengthOf (d := d - 1) (by omega) hI hp) dX6_cue_121 okX6_lengthOf q2797 q2799 qs52 mH_o rfl rfl rfl (Nat.le_of_ble_eq_true rfl) (Nat.le_of_ble_eq_true rfl) (by omega) ?_
            rintro _ _ - - ⟨rfl, rfl⟩
            refine aft_v (pc2 := 124) ?_ rfl
            refine wa_max (pc := 124) dX6_cue_124 q2805 q292 q94 q293 (Nat.le_of_ble_eq_true rfl) (by omega) ?_
            refine wa_istore (pc := 127) (y := mX6_cue) dX6_cue_127 (Nat.le_of_ble_eq_true rfl) rfl ?_
            simp only [List.set_cons_zero, List.set_cons_succ]
            first | with_reducible refine wa_iincN (pc := 129) (y := mX6_cue) dX6_cue_129 rfl (Nat.le_of_ble_eq_true rfl) rfl ?_ | refine wa_iinc (pc := 129) (y := mX6_cue) (1) dX6_cue_129 rfl rfl (Nat.le_of_ble_eq_true rfl) rfl ?_
            simp only [List.set_cons_zero, List.set_cons_succ]
            refine wa_goto (pc := 132) (y := mX6_cue) 89 dX6_cue_132 rfl ?_
            exact ihc
      have hO : ∀ v, cueV f cue p (u w) = v → O_cue f σ cue w = oR f σ v := by
        intro v hv
        unfold O_cue
        rw [hp]
        show (if ¬ u w ≤ 6 then _ else _) = _
        rw [if_neg (fun x => x e0), hv]
      match hk : u w, e0 with
      | 0, _ =>
        rw [hO (Int32.ofNat p) (by rw [hk]; try rfl)]
        refine upto _ ?_
        rw [hk] at ew
        rw [ew]
        refine wa_iload_n (pc := 46) (y := mX6_cue) dX6_cue_46 rfl ?_
        refine wa_if_ne (pc := 47) 52 dX6_cue_47 rfl (fun hb47 => absurd rfl hb47) (fun hb47 => ?_)
        refine wa_iload_n (pc := 50) (y := mX6_cue) dX6_cue_50 rfl ?_
        exact wa_ireturn (pc := 51) (y := mX6_cue) .int dX6_cue_51 rfl rfl ⟨rfl, rfl⟩
      | 1, _ =>
        rw [hO (f (18 + 12 * p + 1)) (by rw [hk]; try rfl)]
        refine upto _ ?_
        rw [hk] at ew
        rw [ew]
        refine wa_iload_n (pc := 46) (y := mX6_cue) dX6_cue_46 rfl ?_
        refine wa_if_ne (pc := 47) 52 dX6_cue_47 rfl (fun hb47 => ?_) (fun hb47 => absurd hb47 (by decide))
        refine wa_iload_n (pc := 52) (y := mX6_cue) dX6_cue_52 rfl ?_
        refine wa_iconst (pc := 53) (y := mX6_cue) (Int32.ofNat 4) dX6_cue_53 rfl ?_
        refine wa_icmp_ge (pc := 54) 69 dX6_cue_54 rfl (fun hb54 => absurd hb54 (by decide)) (fun hb54 => ?_)
        first | refine wa_aload_n (pc := 57) (y := mX6_cue) dX6_cue_57 rfl ?_ | refine wa_aload_nN (pc := 57) (y := mX6_cue) dX6_cue_57 rfl ?_ | refine wa_aload_nq (pc := 57) (y := mX6_cue) dX6_cue_57 rfl ?_
        refine wa_getf (pc := 58) (y := mX6_cue) (k := 5) 0 dX6_cue_58 mH_o rfl q2643 (Or.inl rfl) (Nat.le_of_ble_eq_true rfl) (by rfl) ?_
        refine wa_iload_n (pc := 61) (y := mX6_cue) dX6_cue_61 rfl ?_
        refine wa_callS (pc := 62) (s_X6_at (d := d - 1)) dX6_cue_62 okX6_at q2727 q2728 rfl rfl (Nat.le_of_ble_eq_true rfl) (Nat.le_of_ble_eq_true rfl) (by omega) ?_
        rintro _ _ - - ⟨rfl, rfl⟩
        refine aft_v (pc2 := 65) ?_ rfl
        refine wa_iload_n (pc := 65) (y := mX6_cue) dX6_cue_65 rfl ?_
        first | with_reducible refine wa_iaddN (pc := 66) (y := mX6_cue) dX6_cue_66 ?_ | refine wa_iadd (pc := 66) (y := mX6_cue) dX6_cue_66 ?_
        refine wa_ialoadN (pc := 67) (y := mX6_cue) dX6_cue_67 mH_1 (by omega) ?_
        exact wa_ireturn (pc := 68) (y := mX6_cue) .int dX6_cue_68 rfl rfl ⟨rfl, rfl⟩
      | 2, _ =>
        rw [hO (f (18 + 12 * p + 2)) (by rw [hk]; try rfl)]
        refine upto _ ?_
        rw [hk] at ew
        rw [ew]
        refine wa_iload_n (pc := 46) (y := mX6_cue) dX6_cue_46 rfl ?_
        refine wa_if_ne (pc := 47) 52 dX6_cue_47 rfl (fun hb47 => ?_) (fun hb47 => absurd hb47 (by decide))
        refine wa_iload_n (pc := 52) (y := mX6_cue) dX6_cue_52 rfl ?_
        refine wa_iconst (pc := 53) (y := mX6_cue) (Int32.ofNat 4) dX6_cue_53 rfl ?_
        refine wa_icmp_ge (pc := 54) 69 dX6_cue_54 rfl (fun hb54 => absurd hb54 (by decide)) (fun hb54 => ?_)
        first | refine wa_aload_n (pc := 57) (y := mX6_cue) dX6_cue_57 rfl ?_ | refine wa_aload_nN (pc := 57) (y := mX6_cue) dX6_cue_57 rfl ?_ | refine wa_aload_nq (pc := 57) (y := mX6_cue) dX6_cue_57 rfl ?_
        refine wa_getf (pc := 58) (y := mX6_cue) (k := 5) 0 dX6_cue_58 mH_o rfl q2643 (Or.inl rfl) (Nat.le_of_ble_eq_true rfl) (by rfl) ?_
        refine wa_iload_n (pc := 61) (y := mX6_cue) dX6_cue_61 rfl ?_
        refine wa_callS (pc := 62) (s_X6_at (d := d - 1)) dX6_cue_62 okX6_at q2727 q2728 rfl rfl (Nat.le_of_ble_eq_true rfl) (Nat.le_of_ble_eq_true rfl) (by omega) ?_
        rintro _ _ - - ⟨rfl, rfl⟩
        refine aft_v (pc2 := 65) ?_ rfl
        refine wa_iload_n (pc := 65) (y := mX6_cue) dX6_cue_65 rfl ?_
        first | with_reducible refine wa_iaddN (pc := 66) (y := mX6_cue) dX6_cue_66 ?_ | refine wa_iadd (pc := 66) (y := mX6_cue) dX6_cue_66 ?_
        refine wa_ialoadN (pc := 67) (y := mX6_cue) dX6_cue_67 mH_1 (by omega) ?_
        exact wa_ireturn (pc := 68) (y := mX6_cue) .int dX6_cue_68 rfl rfl ⟨rfl, rfl⟩
      | 3, _ =>
        rw [hO (f (18 + 12 * p + 3)) (by rw [hk]; try rfl)]
        refine upto _ ?_
        rw [hk] at ew
        rw [ew]
        refine wa_iload_n (pc := 46) (y := mX6_cue) dX6_cue_46 rfl ?_
        refine wa_if_ne (pc := 47) 52 dX6_cue_47 rfl (fun hb47 => ?_) (fun hb47 => absurd hb47 (by decide))
        refine wa_iload_n (pc := 52) (y := mX6_cue) dX6_cue_52 rfl ?_
        refine wa_iconst (pc := 53) (y := mX6_cue) (Int32.ofNat 4) dX6_cue_53 rfl ?_
        refine wa_icmp_ge (pc := 54) 69 dX6_cue_54 rfl (fun hb54 => absurd hb54 (by decide)) (fun hb54 => ?_)
        first | refine wa_aload_n (pc := 57) (y := mX6_cue) dX6_cue_57 rfl ?_ | refine wa_aload_nN (pc := 57) (y := mX6_cue) dX6_cue_57 rfl ?_ | refine wa_aload_nq (pc := 57) (y := mX6_cue) dX6_cue_57 rfl ?_
        refine wa_getf (pc := 58) (y := mX6_cue) (k := 5) 0 dX6_cue_58 mH_o rfl q2643 (Or.inl rfl) (Nat.le_of_ble_eq_true rfl) (by rfl) ?_
        refine wa_iload_n (pc := 61) (y := mX6_cue) dX6_cue_61 rfl ?_
        refine wa_callS (pc := 62) (s_X6_at (d := d - 1)) dX6_cue_62 okX6_at q2727 q2728 rfl rfl (Nat.le_of_ble_eq_true rfl) (Nat.le_of_ble_eq_true rfl) (by omega) ?_
        rintro _ _ - - ⟨rfl, rfl⟩
        refine aft_v (pc2 := 65) ?_ rfl
        refine wa_iload_n (pc := 65) (y := mX6_cue) dX6_cue_65 rfl ?_
        first | with_reducible refine wa_iaddN (pc := 66) (y := mX6_cue) dX6_cue_66 ?_ | refine wa_iadd (pc := 66) (y := mX6_cue) dX6_cue_66 ?_
        refine wa_ialoadN (pc := 67) (y := mX6_cue) dX6_cue_67 mH_1 (by omega) ?_
        exact wa_ireturn (pc := 68) (y := mX6_cue) .int dX6_cue_68 rfl rfl ⟨rfl, rfl⟩
      | 4, _ =>
        rw [hO (smN (cntG f cue) (u (f 1))) (by rw [hk]; try rfl)]
        refine upto _ ?_
        rw [hk] at ew
        rw [ew]
        refine wa_iload_n (pc := 46) (y := mX6_cue) dX6_cue_46 rfl ?_
        refine wa_if_ne (pc := 47) 52 dX6_cue_47 rfl (fun hb47 => ?_) (fun hb47 => absurd hb47 (by decide))
        refine wa_iload_n (pc := 52) (y := mX6_cue) dX6_cue_52 rfl ?_
        refine wa_iconst (pc := 53) (y := mX6_cue) (Int32.ofNat 4) dX6_cue_53 rfl ?_
        refine wa_icmp_ge (pc := 54) 69 dX6_cue_54 rfl (fun hb54 => ?_) (fun hb54 => absurd (by decide) hb54)
        refine wa_iload_n (pc := 69) (y := mX6_cue) dX6_cue_69 rfl ?_
        refine wa_iconst (pc := 70) (y := mX6_cue) (Int32.ofNat 4) dX6_cue_70 rfl ?_
        refine wa_icmp_ne (pc := 71) 80 dX6_cue_71 rfl (fun hb71 => absurd rfl hb71) (fun hb71 => ?_)
        first | refine wa_aload_n (pc := 74) (y := mX6_cue) dX6_cue_74 rfl ?_ | refine wa_aload_nN (pc := 74) (y := mX6_cue) dX6_cue_74 rfl ?_ | refine wa_aload_nq (pc := 74) (y := mX6_cue) dX6_cue_74 rfl ?_
        refine wa_iload_n (pc := 75) (y := mX6_cue) dX6_cue_75 rfl ?_
        refine wa_callV (pc := 76) (s_X6_countOf (d := d - 1) (by omega) hI) dX6_cue_76 okX6_countOf q2789 q2791 qs50 mH_o rfl rfl rfl (Nat.le_of_ble_eq_true rfl) (Nat.le_of_ble_eq_true rfl) (by omega) ?_
        rintro _ _ - - ⟨rfl, rfl⟩
        refine aft_v (pc2 := 79) ?_ rfl
        exact wa_ireturn (pc := 79) (y := mX6_cue) .int dX6_cue_79 rfl rfl ⟨rfl, rfl⟩
      | 5, _ =>
        rw [hO (orN (mvs f p) 12) (by rw [hk]; try rfl)]
        refine upto _ ?_
        rw [show (if w = Int32.ofNat 5 then orN (mvs f p) 12 else mxN f cue p 12) = orN (mvs f p) 12 from if_pos (ew.trans (by rw [hk]; try rfl))] at loop
        rw [hk] at ew
        rw [ew] at loop ⊢
        refine wa_iload_n (pc := 46) (y := mX6_cue) dX6_cue_46 rfl ?_
        refine wa_if_ne (pc := 47) 52 dX6_cue_47 rfl (fun hb47 => ?_) (fun hb47 => absurd hb47 (by decide))
        refine wa_iload_n (pc := 52) (y := mX6_cue) dX6_cue_52 rfl ?_
        refine wa_iconst (pc := 53) (y := mX6_cue) (Int32.ofNat 4) dX6_cue_53 rfl ?_
        refine wa_icmp_ge (pc := 54) 69 dX6_cue_54 rfl (fun hb54 => ?_) (fun hb54 => absurd (by decide) hb54)
        refine wa_iload_n (pc := 69) (y := mX6_cue) dX6_cue_69 rfl ?_
        refine wa_iconst (pc := 70) (y := mX6_cue) (Int32.ofNat 4) dX6_cue_70 rfl ?_
        refine wa_icmp_ne (pc := 71) 80 dX6_cue_71 rfl (fun hb71 => ?_) (fun hb71 => absurd hb71 (by decide))
        refine wa_iconst (pc := 80) (y := mX6_cue) (Int32.ofNat 0) dX6_cue_80 rfl ?_
        refine wa_istore (pc := 81) (y := mX6_cue) dX6_cue_81 (Nat.le_of_ble_eq_true rfl) rfl ?_
        simp only [List.set_cons_zero, List.set_cons_succ]
        refine wa_iconst (pc := 83) (y := mX6_cue) (Int32.ofNat 0) dX6_cue_83 rfl ?_
        refine wa_istore (pc := 84) (y := mX6_cue) dX6_cue_84 (Nat.le_of_ble_eq_true rfl) rfl ?_
        simp only [List.set_cons_zero, List.set_cons_succ]
        refine wa_iconst (pc := 86) (y := mX6_cue) (Int32.ofNat 0) dX6_cue_86 rfl ?_
        refine wa_istore (pc := 87) (y := mX6_cue) dX6_cue_87 (Nat.le_of_ble_eq_true rfl) rfl ?_
        simp only [List.set_cons_zero, List.set_cons_succ]
        exact loop 12 0 (by omega)
      | 6, _ =>
        rw [hO (mxN f cue p 12) (by rw [hk]; try rfl)]
        refine upto _ ?_
        rw [show (if w = Int32.ofNat 5 then orN (mvs f p) 12 else mxN f cue p 12) = mxN f cue p 12 from if_neg (fun x => by rw [ew, hk] at x; exact absurd x (by decide))] at loop
        rw [hk] at ew
        rw [ew] at loop ⊢
        refine wa_iload_n (pc := 46) (y := mX6_cue) dX6_cue_46 rfl ?_
        refine wa_if_ne (pc := 47) 52 dX6_cue_47 rfl (fun hb47 => ?_) (fun hb47 => absurd hb47 (by decide))
        refine wa_iload_n (pc := 52) (y := mX6_cue) dX6_cue_52 rfl ?_
        refine wa_iconst (pc := 53) (y := mX6_cue) (Int32.ofNat 4) dX6_cue_53 rfl ?_
        refine wa_icmp_ge (pc := 54) 69 dX6_cue_54 rfl (fun hb54 => ?_) (fun hb54 => absurd (by decide) hb54)
        refine wa_iload_n (pc := 69) (y := mX6_cue) dX6_cue_69 rfl ?_
        refine wa_iconst (pc := 70) (y := mX6_cue) (Int32.ofNat 4) dX6_cue_70 rfl ?_
        refine wa_icmp_ne (pc := 71) 80 dX6_cue_71 rfl (fun hb71 => ?_) (fun hb71 => absurd hb71 (by decide))
        refine wa_iconst (pc := 80) (y := mX6_cue) (Int32.ofNat 0) dX6_cue_80 rfl ?_
        refine wa_istore (pc := 81) (y := mX6_cue) dX6_cue_81 (Nat.le_of_ble_eq_true rfl) rfl ?_
        simp only [List.set_cons_zero, List.set_cons_succ]
        refine wa_iconst (pc := 83) (y := mX6_cue) (Int32.ofNat 0) dX6_cue_83 rfl ?_
        refine wa_istore (pc := 84) (y := mX6_cue) dX6_cue_84 (Nat.le_of_ble_eq_true rfl) rfl ?_
        simp only [List.set_cons_zero, List.set_cons_succ]
        refine wa_iconst (pc := 86) (y := mX6_cue) (Int32.ofNat 0) dX6_cue_86 rfl ?_
        refine wa_istore (pc := 87) (y := mX6_cue) dX6_cue_87 (Nat.le_of_ble_eq_true rfl) rfl ?_
        simp only [List.set_cons_zero, List.set_cons_succ]
        exact loop 12 0 (by omega)
      | k + 7, e => omega
    · rw [show O_cue f σ cue w = oX f σ 2 by unfold O_cue; rw [hp]; exact if_pos e0]
      first | refine wa_aload_n (pc := 0) (y := mX6_cue) dX6_cue_0 rfl ?_ | refine wa_aload_nN (pc := 0) (y := mX6_cue) dX6_cue_0 rfl ?_ | refine wa_aload_nq (pc := 0) (y := mX6_cue) dX6_cue_0 rfl ?_
      first | refine wa_aload_n (pc := 1) (y := mX6_cue) dX6_cue_1 rfl ?_ | refine wa_aload_nN (pc := 1) (y := mX6_cue) dX6_cue_1 rfl ?_ | refine wa_aload_nq (pc := 1) (y := mX6_cue) dX6_cue_1 rfl ?_
      refine wa_iload_n (pc := 2) (y := mX6_cue) dX6_cue_2 rfl ?_
      refine wa_callV (pc := 3) (s_X6_isCue (d := d - 1) (by omega) hI) dX6_cue_3 okX6_isCue q2719 q2721 qs41 mH_o rfl rfl rfl (Nat.le_of_ble_eq_true rfl) (Nat.le_of_ble_eq_true rfl) (by omega) ?_
      rintro _ _ - - ⟨rfl, rfl⟩
      refine aft_v (pc2 := 6) ?_ rfl
      rw [isC_some hp]
      refine wa_if_ne (pc := 6) 13 dX6_cue_6 rfl (fun hb6 => ?_) (fun hb6 => absurd hb6 (by decide))
      refine wa_iload_n (pc := 13) (y := mX6_cue) dX6_cue_13 rfl ?_
      refine wa_iconst (pc := 14) (y := mX6_cue) (Int32.ofNat 0) dX6_cue_14 rfl ?_
      refine wa_bipush (pc := 15) (y := mX6_cue) (Int32.ofNat 6) dX6_cue_15 rfl ?_
      refine wa_callS (pc := 17) (s_X6_in (d := d - 1)) dX6_cue_17 okX6_in q2716 q2717 rfl rfl (Nat.le_of_ble_eq_true rfl) (Nat.le_of_ble_eq_true rfl) (by omega) ?_
      rintro _ _ - - ⟨rfl, rfl⟩
      refine aft_v (pc2 := 20) ?_ rfl
      rw [show inb w (Int32.ofNat 0) (Int32.ofNat 6) = false from (inb_le (by omega)).trans (decide_eq_false e0)]
      refine wa_if_ne (pc := 20) 27 dX6_cue_20 rfl (fun hb20 => absurd rfl hb20) (fun hb20 => ?_)
      refine wa_iconst (pc := 23) (y := mX6_cue) (Int32.ofNat 2) dX6_cue_23 rfl ?_
      refine wa_goto (pc := 24) (y := mX6_cue) 28 dX6_cue_24 rfl ?_
      refine wa_putf (pc := 28) (y := mX6_cue) (k := 5) 7 .int dX6_cue_28 mH_o rfl q2650 (Or.inl rfl) (Nat.le_of_ble_eq_true rfl) rfl (by decide +kernel) rfl rfl ?_
      rw [mW_o7]
      first | refine wa_aload_n (pc := 31) (y := mX6_cue) dX6_cue_31 rfl ?_ | refine wa_aload_nN (pc := 31) (y := mX6_cue) dX6_cue_31 rfl ?_ | refine wa_aload_nq (pc := 31) (y := mX6_cue) dX6_cue_31 rfl ?_
      refine wa_getf (pc := 32) (y := mX6_cue) (k := 5) 7 dX6_cue_32 mH_o rfl q2650 (Or.inl rfl) (Nat.le_of_ble_eq_true rfl) (by rfl) ?_
      show WA _ _ _ _ _ (.int (Int32.ofNat 2) :: _) _ _
      refine wa_if_le (pc := 35) 40 dX6_cue_35 rfl (fun hb35 => absurd hb35 (by decide)) (fun hb35 => ?_)
      clear hb35
      refine wa_iconst (pc := 38) (y := mX6_cue) (Int32.ofNat 0) dX6_cue_38 rfl ?_
      exact wa_ireturn (pc := 39) (y := mX6_cue) .int dX6_cue_39 rfl rfl ⟨rfl, rfl⟩
theorem s_X6_playing {w : Int32} (hd : 3 ≤ d) (hI : Inv f) : MA G d mX6_playing [.ref m, .int w] (mH h m f σ) (fun r h' => r = .inl (some (.int (O_playing f σ w).2.1)) ∧ h' = mH h m (O_playing f σ w).2.2.1 (O_playing f σ w).2.2.2) := by
  have hn := hI.1
  show WA _ _ _ 0 [.ref m, .int _] [] _ _
  by_cases e0 : u w ≤ 4
  · have upto : ∀ v : Int32, WA G d mX6_playing 28 [.ref m, .int w] [.int w] (mH h m f (mV σ 7 (Int32.ofNat 0))) (fun r h' => r = .inl (some (.int v)) ∧ h' = mH h m f (mV σ 7 (Int32.ofNat 0))) → WA G d mX6_playing 0 [.ref m, .int w] [] (mH h m f σ) (fun r h' => r = .inl (some (.int (oR f σ v).2.1)) ∧ h' = mH h m (oR f σ v).2.2.1 (oR f σ v).2.2.2) := by
      intro v K
      first | refine wa_aload_n (pc := 0) (y := mX6_playing) dX6_playing_0 rfl ?_ | refine wa_aload_nN (pc := 0) (y := mX6_playing) dX6_playing_0 rfl ?_ | refine wa_aload_nq (pc := 0) (y := mX6_playing) dX6_playing_0 rfl ?_
      refine wa_iload_n (pc := 1) (y := mX6_playing) dX6_playing_1 rfl ?_
      refine wa_iconst (pc := 2) (y := mX6_playing) (Int32.ofNat 0) dX6_playing_2 rfl ?_
      refine wa_iconst (pc := 3) (y := mX6_playing) (Int32.ofNat 4) dX6_playing_3 rfl ?_
      refine wa_callS (pc := 4) (s_X6_in (d := d - 1)) dX6_playing_4 okX6_in q2716 q2717 rfl rfl (Nat.le_of_ble_eq_true rfl) (Nat.le_of_ble_eq_true rfl) (by omega) ?_
      rintro _ _ - - ⟨rfl, rfl⟩
      refine aft_v (pc2 := 7) ?_ rfl
      rw [show inb w (Int32.ofNat 0) (Int32.ofNat 4) = true from (inb_le (by omega)).trans (decide_eq_true e0)]
      refine wa_if_eq (pc := 7) 14 dX6_playing_7 rfl (fun hb7 => absurd hb7 (by decide)) (fun hb7 => ?_)
      refine wa_iconst (pc := 10) (y := mX6_playing) (Int32.ofNat 0) dX6_playing_10 rfl ?_
      refine wa_goto (pc := 11) (y := mX6_playing) 15 dX6_playing_11 rfl ?_
      refine wa_putf (pc := 15) (y := mX6_playing) (k := 5) 7 .int dX6_playing_15 mH_o rfl q2650 (Or.inl rfl) (Nat.le_of_ble_eq_true rfl) rfl (by decide +kernel) rfl rfl ?_
      rw [mW_o7]
      first | refine wa_aload_n (pc := 18) (y := mX6_playing) dX6_playing_18 rfl ?_ | refine wa_aload_nN (pc := 18) (y := mX6_playing) dX6_playing_18 rfl ?_ | refine wa_aload_nq (pc := 18) (y := mX6_playing) dX6_playing_18 rfl ?_
      refine wa_getf (pc := 19) (y := mX6_playing) (k := 5) 7 dX6_playing_19 mH_o rfl q2650 (Or.inl rfl) (Nat.le_of_ble_eq_true rfl) (by rfl) ?_
      show WA _ _ _ _ _ (.int (Int32.ofNat 0) :: _) _ _
      refine wa_if_le (pc := 22) 27 dX6_playing_22 rfl (fun hb22 => ?_) (fun hb22 => absurd hb22 (by decide))
      clear hb22
      refine wa_iload_n (pc := 27) (y := mX6_playing) dX6_playing_27 rfl ?_
      exact K
    have ew : w = Int32.ofNat (u w) := (u_self w).symm
    have hO : ∀ v, plyV f (u w) = v → O_playing f σ w = oR f σ v := by
      intro v hv
      unfold O_playing
      rw [if_neg (fun x => x e0), hv]
    match hk : u w, e0 with
    | 0, _ =>
      rw [hO (f 2) (by rw [hk]; try rfl)]
      refine upto _ ?_
      rw [hk] at ew
      rw [ew]
      refine wa_tableIn (pc := 28) (y := mX6_playing) 60 dX6_playing_28 (by decide) (by decide) rfl rfl ?_
      first | refine wa_aload_n (pc := 60) (y := mX6_playing) dX6_playing_60 rfl ?_ | refine wa_aload_nN (pc := 60) (y := mX6_playing) dX6_playing_60 rfl ?_ | refine wa_aload_nq (pc := 60) (y := mX6_playing) dX6_playing_60 rfl ?_
      refine wa_getf (pc := 61) (y := mX6_playing) (k := 5) 0 dX6_playing_61 mH_o rfl q2643 (Or.inl rfl) (Nat.le_of_ble_eq_true rfl) (by rfl) ?_
      refine wa_iconst (pc := 64) (y := mX6_playing) (Int32.ofNat 2) dX6_playing_64 rfl ?_
      refine wa_ialoadN (pc := 65) (y := mX6_playing) dX6_playing_65 mH_1 (by omega) ?_
      exact wa_ireturn (pc := 66) (y := mX6_playing) .int dX6_playing_66 rfl rfl ⟨rfl, rfl⟩
    | 1, _ =>
      rw [hO (f 3) (by rw [hk]; try rfl)]
      refine upto _ ?_
      rw [hk] at ew
      rw [ew]
      refine wa_tableIn (pc := 28) (y := mX6_playing) 67 dX6_playing_28 (by decide) (by decide) rfl rfl ?_
      first | refine wa_aload_n (pc := 67) (y := mX6_playing) dX6_playing_67 rfl ?_ | refine wa_aload_nN (pc := 67) (y := mX6_playing) dX6_playing_67 rfl ?_ | refine wa_aload_nq (pc := 67) (y := mX6_playing) dX6_playing_67 rfl ?_
      refine wa_getf (pc := 68) (y := mX6_playing) (k := 5) 0 dX6_playing_68 mH_o rfl q2643 (Or.inl rfl) (Nat.le_of_ble_eq_true rfl) (by rfl) ?_
      refine wa_iconst (pc := 71) (y := mX6_playing) (Int32.ofNat 3) dX6_playing_71 rfl ?_
      refine wa_ialoadN (pc := 72) (y := mX6_playing) dX6_playing_72 mH_1 (by omega) ?_
      exact wa_ireturn (pc := 73) (y := mX6_playing) .int dX6_playing_73 rfl rfl ⟨rfl, rfl⟩
    | 2, _ =>
      rw [hO (nx f (f 2)) (by rw [hk]; try rfl)]
      refine upto _ ?_
      rw [hk] at ew
      rw [ew]
      refine wa_tableIn (pc := 28) (y := mX6_playing) 74 dX6_playing_28 (by decide) (by decide) rfl rfl ?_
      first | refine wa_aload_n (pc := 74) (y := mX6_playing) dX6_playing_74 rfl ?_ | refine wa_aload_nN (pc := 74) (y := mX6_playing) dX6_playing_74 rfl ?_ | refine wa_aload_nq (pc := 74) (y := mX6_playing) dX6_playing_74 rfl ?_
      first | refine wa_aload_n (pc := 75) (y := mX6_playing) dX6_playing_75 rfl ?_ | refine wa_aload_nN (pc := 75) (y := mX6_playing) dX6_playing_75 rfl ?_ | refine wa_aload_nq (pc := 75) (y := mX6_playing) dX6_playing_75 rfl ?_
      refine wa_getf (pc := 76) (y := mX6_playing) (k := 5) 0 dX6_playing_76 mH_o rfl q2643 (Or.inl rfl) (Nat.le_of_ble_eq_true rfl) (by rfl) ?_
      refine wa_iconst (pc := 79) (y := mX6_playing) (Int32.ofNat 2) dX6_playing_79 rfl ?_
      refine wa_ialoadN (pc := 80) (y := mX6_playing) dX6_playing_80 mH_1 (by omega) ?_
      refine wa_callV (pc := 81) (s_X6_nextCue (d := d - 1) (by omega) hI) dX6_playing_81 okX6_nextCue q2914 q2916 qs67 mH_o rfl rfl rfl (Nat.le_of_ble_eq_true rfl) (Nat.le_of_ble_eq_true rfl) (by omega) ?_
      rintro _ _ - - ⟨rfl, rfl⟩
      refine aft_v (pc2 := 84) ?_ rfl
      exact wa_ireturn (pc := 84) (y := mX6_playing) .int dX6_playing_84 rfl rfl ⟨rfl, rfl⟩
    | 3, _ =>
      rw [hO (orN (isF f) 12) (by rw [hk]; try rfl)]
      refine upto _ ?_
      rw [hk] at ew
      rw [ew]
      refine wa_tableIn (pc := 28) (y := mX6_playing) 85 dX6_playing_28 (by decide) (by decide) rfl rfl ?_
      first | refine wa_aload_n (pc := 85) (y := mX6_playing) dX6_playing_85 rfl ?_ | refine wa_aload_nN (pc := 85) (y := mX6_playing) dX6_playing_85 rfl ?_ | refine wa_aload_nq (pc := 85) (y := mX6_playing) dX6_playing_85 rfl ?_
      refine wa_callV (pc := 86) (s_X6_fading (d := d - 1) (by omega)) dX6_playing_86 okX6_fading q2962 q2964 qs72 mH_o rfl rfl rfl (Nat.le_of_ble_eq_true rfl) (Nat.le_of_ble_eq_true rfl) (by omega) ?_
      rintro _ _ - - ⟨rfl, rfl⟩
      refine aft_v (pc2 := 89) ?_ rfl
      exact wa_ireturn (pc := 89) (y := mX6_playing) .int dX6_playing_89 rfl rfl ⟨rfl, rfl⟩
    | 4, _ =>
      rw [hO (if flB f then flT f else -1) (by rw [hk]; try rfl)]
      refine upto _ ?_
      rw [hk] at ew
      rw [ew]
      cases ef : flB f with
      | false =>
        refine wa_tableOut (pc := 28) (y := mX6_playing) 90 dX6_playing_28 (by decide) rfl ?_
        first | refine wa_aload_n (pc := 90) (y := mX6_playing) dX6_playing_90 rfl ?_ | refine wa_aload_nN (pc := 90) (y := mX6_playing) dX6_playing_90 rfl ?_ | refine wa_aload_nq (pc := 90) (y := mX6_playing) dX6_playing_90 rfl ?_
        refine wa_callV (pc := 91) (s_X6_follows (d := d - 1) (by omega) hI) dX6_playing_91 okX6_follows q2946 q2948 qs71 mH_o rfl rfl rfl (Nat.le_of_ble_eq_true rfl) (Nat.le_of_ble_eq_true rfl) (by omega) ?_
        rintro _ _ - - ⟨rfl, rfl⟩
        refine aft_v (pc2 := 94) ?_ rfl
        rw [ef]
        refine wa_if_eq (pc := 94) 131 dX6_playing_94 rfl (fun hb94 => ?_) (fun hb94 => absurd rfl hb94)
        refine wa_iconst (pc := 131) (y := mX6_playing) (-1) dX6_playing_131 rfl ?_
        exact wa_ireturn (pc := 132) (y := mX6_playing) .int dX6_playing_132 rfl rfl ⟨rfl, rfl⟩
      | true =>
        obtain ⟨p, hp⟩ : ∃ p, pl f (f 2) = some p := by
          cases e : pl f (f 2) with
          | some p => exact ⟨p, rfl⟩
          | none => unfold flB at ef; rw [e, Bool.and_false] at ef; exact absurd ef (by decide)
        have hps := (pl_some hp).1
        rw [if_pos rfl, show flT f = if Int32.ofNat 1 < f (18 + 12 * p + 1) - f 3 then f (18 + 12 * p + 1) - f 3 else Int32.ofNat 1 by unfold flT; rw [hp]]
        refine wa_tableOut (pc := 28) (y := mX6_playing) 90 dX6_playing_28 (by decide) rfl ?_
        first | refine wa_aload_n (pc := 90) (y := mX6_playing) dX6_playing_90 rfl ?_ | refine wa_aload_nN (pc := 90) (y := mX6_playing) dX6_playing_90 rfl ?_ | refine wa_aload_nq (pc := 90) (y := mX6_playing) dX6_playing_90 rfl ?_
        refine wa_callV (pc := 91) (s_X6_follows (d := d - 1) (by omega) hI) dX6_playing_91 okX6_follows q2946 q2948 qs71 mH_o rfl rfl rfl (Nat.le_of_ble_eq_true rfl) (Nat.le_of_ble_eq_true rfl) (by omega) ?_
        rintro _ _ - - ⟨rfl, rfl⟩
        refine aft_v (pc2 := 94) ?_ rfl
        rw [ef]
        refine wa_if_eq (pc := 94) 131 dX6_playing_94 rfl (fun hb94 => absurd hb94 (by decide)) (fun hb94 => ?_)
        refine wa_iconst (pc := 97) (y := mX6_playing) (Int32.ofNat 1) dX6_playing_97 rfl ?_
        first | refine wa_aload_n (pc := 98) (y := mX6_playing) dX6_playing_98 rfl ?_ | refine wa_aload_nN (pc := 98) (y := mX6_playing) dX6_playing_98 rfl ?_ | refine wa_aload_nq (pc := 98) (y := mX6_playing) dX6_playing_98 rfl ?_
        refine wa_getf (pc := 99) (y := mX6_playing) (k := 5) 0 dX6_playing_99 mH_o rfl q2643 (Or.inl rfl) (Nat.le_of_ble_eq_true rfl) (by rfl) ?_
        first | refine wa_aload_n (pc := 102) (y := mX6_playing) dX6_playing_102 rfl ?_ | refine wa_aload_nN (pc := 102) (y := mX6_playing) dX6_playing_102 rfl ?_ | refine wa_aload_nq (pc := 102) (y := mX6_playing) dX6_playing_102 rfl ?_
        first | refine wa_aload_n (pc := 103) (y := mX6_playing) dX6_playing_103 rfl ?_ | refine wa_aload_nN (pc := 103) (y := mX6_playing) dX6_playing_103 rfl ?_ | refine wa_aload_nq (pc := 103) (y := mX6_playing) dX6_playing_103 rfl ?_
        refine wa_getf (pc := 104) (y := mX6_playing) (k := 5) 0 dX6_playing_104 mH_o rfl q2643 (Or.inl rfl) (Nat.le_of_ble_eq_true rfl) (by rfl) ?_
        refine wa_iconst (pc := 107) (y := mX6_playing) (Int32.ofNat 2) dX6_playing_107 rfl ?_
        refine wa_ialoadN (pc := 108) (y := mX6_playing) dX6_playing_108 mH_1 (by omega) ?_
        refine wa_callV (pc := 109) (s_X6_placeOf (d := d - 1) (by omega) hI) dX6_playing_109 okX6_placeOf q2723 q2725 qs42 mH_o rfl rfl rfl (Nat.le_of_ble_eq_true rfl) (Nat.le_of_ble_eq_true rfl) (by omega) ?_
        rintro _ _ - - ⟨rfl, rfl⟩
        refine aft_v (pc2 := 112) ?_ rfl
        rw [hp, oI_some]
        refine wa_callS (pc := 112) (s_X6_at (d := d - 1)) dX6_playing_112 okX6_at q2727 q2728 rfl rfl (Nat.le_of_ble_eq_true rfl) (Nat.le_of_ble_eq_true rfl) (by omega) ?_
        rintro _ _ - - ⟨rfl, rfl⟩
        refine aft_v (pc2 := 115) ?_ rfl
        refine wa_iconst (pc := 115) (y := mX6_playing) (Int32.ofNat 1) dX6_playing_115 rfl ?_
        first | with_reducible refine wa_iaddN (pc := 116) (y := mX6_playing) dX6_playing_116 ?_ | refine wa_iadd (pc := 116) (y := mX6_playing) dX6_playing_116 ?_
        refine wa_ialoadN (pc := 117) (y := mX6_playing) dX6_playing_117 mH_1 (by omega) ?_
        first | refine wa_aload_n (pc := 118) (y := mX6_playing) dX6_playing_118 rfl ?_ | refine wa_aload_nN (pc := 118) (y := mX6_playing) dX6_playing_118 rfl ?_ | refine wa_aload_nq (pc := 118) (y := mX6_playing) dX6_playing_118 rfl ?_
        refine wa_getf (pc := 119) (y := mX6_playing) (k := 5) 0 dX6_playing_119 mH_o rfl q2643 (Or.inl rfl) (Nat.le_of_ble_eq_true rfl) (by rfl) ?_
        refine wa_iconst (pc := 122) (y := mX6_playing) (Int32.ofNat 3) dX6_playing_122 rfl ?_
        refine wa_ialoadN (pc := 123) (y := mX6_playing) dX6_playing_123 mH_1 (by omega) ?_
        refine wa_isub (pc := 124) (y := mX6_playing) dX6_playing_124 ?_
        refine wa_max (pc := 125) dX6_playing_125 q2805 q292 q94 q293 (Nat.le_of_ble_eq_true rfl) (by omega) ?_
        refine wa_goto (pc := 128) (y := mX6_playing) 132 dX6_playing_128 rfl ?_
        exact wa_ireturn (pc := 132) (y := mX6_playing) .int dX6_playing_132 rfl rfl ⟨rfl, rfl⟩
    | k + 5, e => omega
  · rw [show O_playing f σ w = _ from if_pos e0]
    first | refine wa_aload_n (pc := 0) (y := mX6_playing) dX6_playing_0 rfl ?_ | refine wa_aload_nN (pc := 0) (y := mX6_playing) dX6_playing_0 rfl ?_ | refine wa_aload_nq (pc := 0) (y := mX6_playing) dX6_playing_0 rfl ?_
    refine wa_iload_n (pc := 1) (y := mX6_playing) dX6_playing_1 rfl ?_
    refine wa_iconst (pc := 2) (y := mX6_playing) (Int32.ofNat 0) dX6_playing_2 rfl ?_
    refine wa_iconst (pc := 3) (y := mX6_playing) (Int32.ofNat 4) dX6_playing_3 rfl ?_
    refine wa_callS (pc := 4) (s_X6_in (d := d - 1)) dX6_playing_4 okX6_in q2716 q2717 rfl rfl (Nat.le_of_ble_eq_true rfl) (Nat.le_of_ble_eq_true rfl) (by omega) ?_
    rintro _ _ - - ⟨rfl, rfl⟩
    refine aft_v (pc2 := 7) ?_ rfl
    rw [show inb w (Int32.ofNat 0) (Int32.ofNat 4) = false from (inb_le (by omega)).trans (decide_eq_false e0)]
    refine wa_if_eq (pc := 7) 14 dX6_playing_7 rfl (fun hb7 => ?_) (fun hb7 => absurd rfl hb7)
    refine wa_iconst (pc := 14) (y := mX6_playing) (Int32.ofNat 1) dX6_playing_14 rfl ?_
    refine wa_putf (pc := 15) (y := mX6_playing) (k := 5) 7 .int dX6_playing_15 mH_o rfl q2650 (Or.inl rfl) (Nat.le_of_ble_eq_true rfl) rfl (by decide +kernel) rfl rfl ?_
    rw [mW_o7]
    first | refine wa_aload_n (pc := 18) (y := mX6_playing) dX6_playing_18 rfl ?_ | refine wa_aload_nN (pc := 18) (y := mX6_playing) dX6_playing_18 rfl ?_ | refine wa_aload_nq (pc := 18) (y := mX6_playing) dX6_playing_18 rfl ?_
    refine wa_getf (pc := 19) (y := mX6_playing) (k := 5) 7 dX6_playing_19 mH_o rfl q2650 (Or.inl rfl) (Nat.le_of_ble_eq_true rfl) (by rfl) ?_
    show WA _ _ _ _ _ (.int (Int32.ofNat 1) :: _) _ _
    refine wa_if_le (pc := 22) 27 dX6_playing_22 rfl (fun hb22 => absurd hb22 (by decide)) (fun hb22 => ?_)
    clear hb22
    refine wa_iconst (pc := 25) (y := mX6_playing) (Int32.ofNat 0) dX6_playing_25 rfl ?_
    exact wa_ireturn (pc := 26) (y := mX6_playing) .int dX6_playing_26 rfl rfl ⟨rfl, rfl⟩
theorem s_X6_account {w : Int32} (hd : 5 ≤ d) (hI : Inv f) : MA G d mX6_account [.ref m, .int w] (mH h m f σ) (fun r h' => r = .inl (some (.int (O_account f σ w).2.1)) ∧ h' = mH h m (O_account f σ w).2.2.1 (O_account f σ w).2.2.2) := by
  have hn := hI.1
  have hi := hI.2.1
  show WA _ _ _ 0 [.ref m, .int _, .retAddr 0, .retAddr 0] [] _ _
  by_cases e0 : u w ≤ 10
  · have upto : ∀ v : Int32, WA G d mX6_account 29 [.ref m, .int w, .retAddr 0, .retAddr 0] [.int w] (mH h m f (mV σ 7 (Int32.ofNat 0))) (fun r h' => r = .inl (some (.int v)) ∧ h' = mH h m f (mV σ 7 (Int32.ofNat 0))) → WA G d mX6_account 0 [.ref m, .int w, .retAddr 0, .retAddr 0] [] (mH h m f σ) (fun r h' => r = .inl (some (.int (oR f σ v).2.1)) ∧ h' = mH h m (oR f σ v).2.2.1 (oR f σ v).2.2.2) := by
      intro v K
      first | refine wa_aload_n (pc := 0) (y := mX6_account) dX6_account_0 rfl ?_ | refine wa_aload_nN (pc := 0) (y := mX6_account) dX6_account_0 rfl ?_ | refine wa_aload_nq (pc := 0) (y := mX6_account) dX6_account_0 rfl ?_
      refine wa_iload_n (pc := 1) (y := mX6_account) dX6_account_1 rfl ?_
      refine wa_iconst (pc := 2) (y := mX6_account) (Int32.ofNat 0) dX6_account_2 rfl ?_
      refine wa_bipush (pc := 3) (y := mX6_account) (Int32.ofNat 10) dX6_account_3 rfl ?_
      refine wa_callS (pc := 5) (s_X6_in (d := d - 1)) dX6_account_5 okX6_in q2716 q2717 rfl rfl (Nat.le_of_ble_eq_true rfl) (Nat.le_of_ble_eq_true rfl) (by omega) ?_
      rintro _ _ - - ⟨rfl, rfl⟩
      refine aft_v (pc2 := 8) ?_ rfl
      rw [show inb w (Int32.ofNat 0) (Int32.ofNat 10) = true from (inb_le (by omega)).trans (decide_eq_true e0)]
      refine wa_if_eq (pc := 8) 15 dX6_account_8 rfl (fun hb8 => absurd hb8 (by decide)) (fun hb8 => ?_)
      refine wa_iconst (pc := 11) (y := mX6_account) (Int32.ofNat 0) dX6_account_11 rfl ?_
      refine wa_goto (pc := 12) (y := mX6_account) 16 dX6_account_12 rfl ?_
      refine wa_putf (pc := 16) (y := mX6_account) (k := 5) 7 .int dX6_account_16 mH_o rfl q2650 (Or.inl rfl) (Nat.le_of_ble_eq_true rfl) rfl (by decide +kernel) rfl rfl ?_
      rw [mW_o7]
      first | refine wa_aload_n (pc := 19) (y := mX6_account) dX6_account_19 rfl ?_ | refine wa_aload_nN (pc := 19) (y := mX6_account) dX6_account_19 rfl ?_ | refine wa_aload_nq (pc := 19) (y := mX6_account) dX6_account_19 rfl ?_
      refine wa_getf (pc := 20) (y := mX6_account) (k := 5) 7 dX6_account_20 mH_o rfl q2650 (Or.inl rfl) (Nat.le_of_ble_eq_true rfl) (by rfl) ?_
      show WA _ _ _ _ _ (.int (Int32.ofNat 0) :: _) _ _
      refine wa_if_le (pc := 23) 28 dX6_account_23 rfl (fun hb23 => ?_) (fun hb23 => absurd hb23 (by decide))
      clear hb23
      refine wa_iload_n (pc := 28) (y := mX6_account) dX6_account_28 rfl ?_
      exact K
    have ew : w = Int32.ofNat (u w) := (u_self w).symm
    have loop : ∀ t k, k + t = u (f 1) → WA G d mX6_account 126 [.ref m, .int w, .int (smN (relG f) k), .int (Int32.ofNat k)] [] (mH h m f (mV σ 7 (Int32.ofNat 0))) (fun r h' => r = .inl (some (.int (smN (relG f) (u (f 1))))) ∧ h' = mH h m f (mV σ 7 (Int32.ofNat 0))) := by
      intro t
      induction t with
      | zero =>
        intro k hk
        obtain rfl : k = u (f 1) := hk
        refine wa_iload_n (pc := 126) (y := mX6_account) dX6_account_126 rfl ?_
        first | refine wa_aload_n (pc := 127) (y := mX6_account) dX6_account_127 rfl ?_ | refine wa_aload_nN (pc := 127) (y := mX6_account) dX6_account_127 rfl ?_ | refine wa_aload_nq (pc := 127) (y := mX6_account) dX6_account_127 rfl ?_
        refine wa_getf (pc := 128) (y := mX6_account) (k := 5) 0 dX6_account_128 mH_o rfl q2643 (Or.inl rfl) (Nat.le_of_ble_eq_true rfl) (by rfl) ?_
        refine wa_iconst (pc := 131) (y := mX6_account) (Int32.ofNat 1) dX6_account_131 rfl ?_
        refine wa_ialoadU (pc := 132) (y := mX6_account) dX6_account_132 mH_1 (by omega) ?_
        refine wa_icmp_ge (pc := 133) 168 dX6_account_133 rfl (fun hb133 => ?_) (fun hb133 => absurd (Int32.le_refl _) hb133)
        refine wa_iload_n (pc := 168) (y := mX6_account) dX6_account_168 rfl ?_
        exact wa_ireturn (pc := 169) (y := mX6_account) .int dX6_account_169 rfl rfl ⟨rfl, rfl⟩
      | succ t ih =>
        intro k hk
        refine wa_iload_n (pc := 126) (y := mX6_account) dX6_account_126 rfl ?_
        first | refine wa_aload_n (pc := 127) (y := mX6_account) dX6_account_127 rfl ?_ | refine wa_aload_nN (pc := 127) (y := mX6_account) dX6_account_127 rfl ?_ | refine wa_aload_nq (pc := 127) (y := mX6_account) dX6_account_127 rfl ?_
        refine wa_getf (pc := 128) (y := mX6_account) (k := 5) 0 dX6_account_128 mH_o rfl q2643 (Or.inl rfl) (Nat.le_of_ble_eq_true rfl) (by rfl) ?_
        refine wa_iconst (pc := 131) (y := mX6_account) (Int32.ofNat 1) dX6_account_131 rfl ?_
        refine wa_ialoadU (pc := 132) (y := mX6_account) dX6_account_132 mH_1 (by omega) ?_
        refine wa_icmp_ge (pc := 133) 168 dX6_account_133 rfl (fun hb133 => absurd ((iN_le (by omega) (by omega)).mp hb133) (by omega)) (fun hb133 => ?_)
        refine wa_iload_n (pc := 136) (y := mX6_account) dX6_account_136 rfl ?_
        first | refine wa_aload_n (pc := 137) (y := mX6_account) dX6_account_137 rfl ?_ | refine wa_aload_nN (pc := 137) (y := mX6_account) dX6_account_137 rfl ?_ | refine wa_aload_nq (pc := 137) (y := mX6_account) dX6_account_137 rfl ?_
        refine wa_getf (pc := 138) (y := mX6_account) (k := 5) 0 dX6_account_138 mH_o rfl q2643 (Or.inl rfl) (Nat.le_of_ble_eq_true rfl) (by rfl) ?_
        refine wa_sipush (pc := 141) (y := mX6_account) (Int32.ofNat 162) dX6_account_141 rfl ?_
        refine wa_iconst (pc := 144) (y := mX6_account) (Int32.ofNat 4) dX6_account_144 rfl ?_
        refine wa_iload_n (pc := 145) (y := mX6_account) dX6_account_145 rfl ?_
        first | with_reducible refine wa_imulN (pc := 146) (y := mX6_account) dX6_account_146 ?_ | refine wa_imul (pc := 146) (y := mX6_account) dX6_account_146 ?_
        first | with_reducible refine wa_iaddN (pc := 147) (y := mX6_account) dX6_account_147 ?_ | refine wa_iadd (pc := 147) (y := mX6_account) dX6_account_147 ?_
        refine wa_iconst (pc := 148) (y := mX6_account) (Int32.ofNat 2) dX6_account_148 rfl ?_
        first | with_reducible refine wa_iaddN (pc := 149) (y := mX6_account) dX6_account_149 ?_ | refine wa_iadd (pc := 149) (y := mX6_account) dX6_account_149 ?_
        refine wa_ialoadN (pc := 150) (y := mX6_account) dX6_account_150 mH_1 (by omega) ?_
        refine wa_iconst (pc := 151) (y := mX6_account) (-1) dX6_account_151 rfl ?_
        refine wa_icmp_ne (pc := 152) 159 dX6_account_152 rfl (fun hb152 => ?_) (fun hb152 => ?_)
        · have e : relG f k = Int32.ofNat 0 := if_neg hb152
          refine wa_iconst (pc := 159) (y := mX6_account) (Int32.ofNat 0) dX6_account_159 rfl ?_
          first | with_reducible refine wa_iaddN (pc := 160) (y := mX6_account) dX6_account_160 ?_ | refine wa_iadd (pc := 160) (y := mX6_account) dX6_account_160 ?_
          rw [smN_s e]
          refine wa_istore_n (pc := 161) (y := mX6_account) dX6_account_161 (Nat.le_of_ble_eq_true rfl) rfl ?_
          change WA _ _ _ _ (List.set _ 2 _) _ _ _
          simp only [List.set_cons_zero, List.set_cons_succ]
          first | with_reducible refine wa_iincN (pc := 162) (y := mX6_account) dX6_account_162 rfl (Nat.le_of_ble_eq_true rfl) rfl ?_ | refine wa_iinc (pc := 162) (y := mX6_account) (1) dX6_account_162 rfl rfl (Nat.le_of_ble_eq_true rfl) rfl ?_
          simp only [List.set_cons_zero, List.set_cons_succ]
          refine wa_goto (pc := 165) (y := mX6_account) 126 dX6_account_165 rfl ?_
          exact ih (k + 1) (by omega)
        · have e : relG f k = Int32.ofNat 1 := if_pos hb152
          refine wa_iconst (pc := 155) (y := mX6_account) (Int32.ofNat 1) dX6_account_155 rfl ?_
          refine wa_goto (pc := 156) (y := mX6_account) 160 dX6_account_156 rfl ?_
          first | with_reducible refine wa_iaddN (pc := 160) (y := mX6_account) dX6_account_160 ?_ | refine wa_iadd (pc := 160) (y := mX6_account) dX6_account_160 ?_
          rw [smN_s e]
          refine wa_istore_n (pc := 161) (y := mX6_account) dX6_account_161 (Nat.le_of_ble_eq_true rfl) rfl ?_
          change WA _ _ _ _ (List.set _ 2 _) _ _ _
          simp only [List.set_cons_zero, List.set_cons_succ]
          first | with_reducible refine wa_iincN (pc := 162) (y := mX6_account) dX6_account_162 rfl (Nat.le_of_ble_eq_true rfl) rfl ?_ | refine wa_iinc (pc := 162) (y := mX6_account) (1) dX6_account_162 rfl rfl (Nat.le_of_ble_eq_true rfl) rfl ?_
          simp only [List.set_cons_zero, List.set_cons_succ]
          refine wa_goto (pc := 165) (y := mX6_account) 126 dX6_account_165 rfl ?_
          exact ih (k + 1) (by omega)
    have hO : ∀ v, accV f (u w) = v → O_account f σ w = oR f σ v := by
      intro v hv
      unfold O_account
      rw [if_neg (fun x => x e0), hv]
    match hk : u w, e0 with
    | 0, _ =>
      rw [hO (f 0) (by rw [hk]; try rfl)]
      refine upto _ ?_
      rw [hk] at ew
      rw [ew]
      refine wa_tableIn (pc := 29) (y := mX6_account) 88 dX6_account_29 (by decide) (by decide) rfl rfl ?_
      first | refine wa_aload_n (pc := 88) (y := mX6_account) dX6_account_88 rfl ?_ | refine wa_aload_nN (pc := 88) (y := mX6_account) dX6_account_88 rfl ?_ | refine wa_aload_nq (pc := 88) (y := mX6_account) dX6_account_88 rfl ?_
      refine wa_getf (pc := 89) (y := mX6_account) (k := 5) 0 dX6_account_89 mH_o rfl q2643 (Or.inl rfl) (Nat.le_of_ble_eq_true rfl) (by rfl) ?_
      refine wa_iconst (pc := 92) (y := mX6_account) (Int32.ofNat 0) dX6_account_92 rfl ?_
      refine wa_ialoadN (pc := 93) (y := mX6_account) dX6_account_93 mH_1 (by omega) ?_
      exact wa_ireturn (pc := 94) (y := mX6_account) .int dX6_account_94 rfl rfl ⟨rfl, rfl⟩
    | 1, _ =>
      rw [hO (f 1) (by rw [hk]; try rfl)]
      refine upto _ ?_
      rw [hk] at ew
      rw [ew]
      refine wa_tableIn (pc := 29) (y := mX6_account) 95 dX6_account_29 (by decide) (by decide) rfl rfl ?_
      first | refine wa_aload_n (pc := 95) (y := mX6_account) dX6_account_95 rfl ?_ | refine wa_aload_nN (pc := 95) (y := mX6_account) dX6_account_95 rfl ?_ | refine wa_aload_nq (pc := 95) (y := mX6_account) dX6_account_95 rfl ?_
      refine wa_getf (pc := 96) (y := mX6_account) (k := 5) 0 dX6_account_96 mH_o rfl q2643 (Or.inl rfl) (Nat.le_of_ble_eq_true rfl) (by rfl) ?_
      refine wa_iconst (pc := 99) (y := mX6_account) (Int32.ofNat 1) dX6_account_99 rfl ?_
      refine wa_ialoadN (pc := 100) (y := mX6_account) dX6_account_100 mH_1 (by omega) ?_
      exact wa_ireturn (pc := 101) (y := mX6_account) .int dX6_account_101 rfl rfl ⟨rfl, rfl⟩
    | 2, _ =>
      rw [hO (smN (ovcG f (Int32.ofNat 2)) 12) (by rw [hk]; try rfl)]
      refine upto _ ?_
      rw [hk] at ew
      rw [ew]
      refine wa_tableIn (pc := 29) (y := mX6_account) 102 dX6_account_29 (by decide) (by decide) rfl rfl ?_
      first | refine wa_aload_n (pc := 102) (y := mX6_account) dX6_account_102 rfl ?_ | refine wa_aload_nN (pc := 102) (y := mX6_account) dX6_account_102 rfl ?_ | refine wa_aload_nq (pc := 102) (y := mX6_account) dX6_account_102 rfl ?_
      refine wa_iload_n (pc := 103) (y := mX6_account) dX6_account_103 rfl ?_
      refine wa_callV (pc := 104) (s_X6_overChannels (d := d - 1) (by omega)) dX6_account_104 okX6_overChannels q2978 q2980 qs74 mH_o rfl rfl rfl (Nat.le_of_ble_eq_true rfl) (Nat.le_of_ble_eq_true rfl) (by omega) ?_
      rintro _ _ - - ⟨rfl, rfl⟩
      refine aft_v (pc2 := 107) ?_ rfl
      exact wa_ireturn (pc := 107) (y := mX6_account) .int dX6_account_107 rfl rfl ⟨rfl, rfl⟩
    | 3, _ =>
      rw [hO (smN (ovcG f (Int32.ofNat 3)) 12) (by rw [hk]; try rfl)]
      refine upto _ ?_
      rw [hk] at ew
      rw [ew]
      refine wa_tableIn (pc := 29) (y := mX6_account) 102 dX6_account_29 (by decide) (by decide) rfl rfl ?_
      first | refine wa_aload_n (pc := 102) (y := mX6_account) dX6_account_102 rfl ?_ | refine wa_aload_nN (pc := 102) (y := mX6_account) dX6_account_102 rfl ?_ | refine wa_aload_nq (pc := 102) (y := mX6_account) dX6_account_102 rfl ?_
      refine wa_iload_n (pc := 103) (y := mX6_account) dX6_account_103 rfl ?_
      refine wa_callV (pc := 104) (s_X6_overChannels (d := d - 1) (by omega)) dX6_account_104 okX6_overChannels q2978 q2980 qs74 mH_o rfl rfl rfl (Nat.le_of_ble_eq_true rfl) (Nat.le_of_ble_eq_true rfl) (by omega) ?_
      rintro _ _ - - ⟨rfl, rfl⟩
      refine aft_v (pc2 := 107) ?_ rfl
      exact wa_ireturn (pc := 107) (y := mX6_account) .int dX6_account_107 rfl rfl ⟨rfl, rfl⟩
    | 4, _ =>
      rw [hO (smN (ovcG f (Int32.ofNat 4)) 12) (by rw [hk]; try rfl)]
      refine upto _ ?_
      rw [hk] at ew
      rw [ew]
      refine wa_tableIn (pc := 29) (y := mX6_account) 102 dX6_account_29 (by decide) (by decide) rfl rfl ?_
      first | refine wa_aload_n (pc := 102) (y := mX6_account) dX6_account_102 rfl ?_ | refine wa_aload_nN (pc := 102) (y := mX6_account) dX6_account_102 rfl ?_ | refine wa_aload_nq (pc := 102) (y := mX6_account) dX6_account_102 rfl ?_
      refine wa_iload_n (pc := 103) (y := mX6_account) dX6_account_103 rfl ?_
      refine wa_callV (pc := 104) (s_X6_overChannels (d := d - 1) (by omega)) dX6_account_104 okX6_overChannels q2978 q2980 qs74 mH_o rfl rfl rfl (Nat.le_of_ble_eq_true rfl) (Nat.le_of_ble_eq_true rfl) (by omega) ?_
      rintro _ _ - - ⟨rfl, rfl⟩
      refine aft_v (pc2 := 107) ?_ rfl
      exact wa_ireturn (pc := 107) (y := mX6_account) .int dX6_account_107 rfl rfl ⟨rfl, rfl⟩
    | 5, _ =>
      rw [hO (f 4) (by rw [hk]; try rfl)]
      refine upto _ ?_
      rw [hk] at ew
      rw [ew]
      refine wa_tableIn (pc := 29) (y := mX6_account) 108 dX6_account_29 (by decide) (by decide) rfl rfl ?_
      first | refine wa_aload_n (pc := 108) (y := mX6_account) dX6_account_108 rfl ?_ | refine wa_aload_nN (pc := 108) (y := mX6_account) dX6_account_108 rfl ?_ | refine wa_aload_nq (pc := 108) (y := mX6_account) dX6_account_108 rfl ?_
      refine wa_getf (pc := 109) (y := mX6_account) (k := 5) 0 dX6_account_109 mH_o rfl q2643 (Or.inl rfl) (Nat.le_of_ble_eq_true rfl) (by rfl) ?_
      refine wa_iconst (pc := 112) (y := mX6_account) (Int32.ofNat 4) dX6_account_112 rfl ?_
      refine wa_ialoadN (pc := 113) (y := mX6_account) dX6_account_113 mH_1 (by omega) ?_
      exact wa_ireturn (pc := 114) (y := mX6_account) .int dX6_account_114 rfl rfl ⟨rfl, rfl⟩
    | 6, _ =>
      rw [hO (f 5) (by rw [hk]; try rfl)]
      refine upto _ ?_
      rw [hk] at ew
      rw [ew]
      refine wa_tableIn (pc := 29) (y := mX6_account) 115 dX6_account_29 (by decide) (by decide) rfl rfl ?_
      first | refine wa_aload_n (pc := 115) (y := mX6_account) dX6_account_115 rfl ?_ | refine wa_aload_nN (pc := 115) (y := mX6_account) dX6_account_115 rfl ?_ | refine wa_aload_nq (pc := 115) (y := mX6_account) dX6_account_115 rfl ?_
      refine wa_getf (pc := 116) (y := mX6_account) (k := 5) 0 dX6_account_116 mH_o rfl q2643 (Or.inl rfl) (Nat.le_of_ble_eq_true rfl) (by rfl) ?_
      refine wa_iconst (pc := 119) (y := mX6_account) (Int32.ofNat 5) dX6_account_119 rfl ?_
      refine wa_ialoadN (pc := 120) (y := mX6_account) dX6_account_120 mH_1 (by omega) ?_
      exact wa_ireturn (pc := 121) (y := mX6_account) .int dX6_account_121 rfl rfl ⟨rfl, rfl⟩
    | 7, _ =>
      rw [hO (ovkN f (Int32.ofNat 7) (u (f 0))) (by rw [hk]; try rfl)]
      refine upto _ ?_
      rw [hk] at ew
      rw [ew]
      refine wa_tableIn (pc := 29) (y := mX6_account) 170 dX6_account_29 (by decide) (by decide) rfl rfl ?_
      first | refine wa_aload_n (pc := 170) (y := mX6_account) dX6_account_170 rfl ?_ | refine wa_aload_nN (pc := 170) (y := mX6_account) dX6_account_170 rfl ?_ | refine wa_aload_nq (pc := 170) (y := mX6_account) dX6_account_170 rfl ?_
      refine wa_iload_n (pc := 171) (y := mX6_account) dX6_account_171 rfl ?_
      refine wa_callV (pc := 172) (s_X6_overCues (d := d - 1) (by omega) hI) dX6_account_172 okX6_overCues q2982 q2984 qs75 mH_o rfl rfl rfl (Nat.le_of_ble_eq_true rfl) (Nat.le_of_ble_eq_true rfl) (by omega) ?_
      rintro _ _ - - ⟨rfl, rfl⟩
      refine aft_v (pc2 := 175) ?_ rfl
      exact wa_ireturn (pc := 175) (y := mX6_account) .int dX6_account_175 rfl rfl ⟨rfl, rfl⟩
    | 8, _ =>
      rw [hO (ovkN f (Int32.ofNat 8) (u (f 0))) (by rw [hk]; try rfl)]
      refine upto _ ?_
      rw [hk] at ew
      rw [ew]
      refine wa_tableIn (pc := 29) (y := mX6_account) 170 dX6_account_29 (by decide) (by decide) rfl rfl ?_
      first | refine wa_aload_n (pc := 170) (y := mX6_account) dX6_account_170 rfl ?_ | refine wa_aload_nN (pc := 170) (y := mX6_account) dX6_account_170 rfl ?_ | refine wa_aload_nq (pc := 170) (y := mX6_account) dX6_account_170 rfl ?_
      refine wa_iload_n (pc := 171) (y := mX6_account) dX6_account_171 rfl ?_
      refine wa_callV (pc := 172) (s_X6_overCues (d := d - 1) (by omega) hI) dX6_account_172 okX6_overCues q2982 q2984 qs75 mH_o rfl rfl rfl (Nat.le_of_ble_eq_true rfl) (Nat.le_of_ble_eq_true rfl) (by omega) ?_
      rintro _ _ - - ⟨rfl, rfl⟩
      refine aft_v (pc2 := 175) ?_ rfl
      exact wa_ireturn (pc := 175) (y := mX6_account) .int dX6_account_175 rfl rfl ⟨rfl, rfl⟩
    | 9, _ =>
      rw [hO (ovkN f (Int32.ofNat 9) (u (f 0))) (by rw [hk]; try rfl)]
      refine upto _ ?_
      rw [hk] at ew
      rw [ew]
      refine wa_tableIn (pc := 29) (y := mX6_account) 170 dX6_account_29 (by decide) (by decide) rfl rfl ?_
      first | refine wa_aload_n (pc := 170) (y := mX6_account) dX6_account_170 rfl ?_ | refine wa_aload_nN (pc := 170) (y := mX6_account) dX6_account_170 rfl ?_ | refine wa_aload_nq (pc := 170) (y := mX6_account) dX6_account_170 rfl ?_
      refine wa_iload_n (pc := 171) (y := mX6_account) dX6_account_171 rfl ?_
      refine wa_callV (pc := 172) (s_X6_overCues (d := d - 1) (by omega) hI) dX6_account_172 okX6_overCues q2982 q2984 qs75 mH_o rfl rfl rfl (Nat.le_of_ble_eq_true rfl) (Nat.le_of_ble_eq_true rfl) (by omega) ?_
      rintro _ _ - - ⟨rfl, rfl⟩
      refine aft_v (pc2 := 175) ?_ rfl
      exact wa_ireturn (pc := 175) (y := mX6_account) .int dX6_account_175 rfl rfl ⟨rfl, rfl⟩
    | 10, _ =>
      rw [hO (smN (relG f) (u (f 1))) (by rw [hk]; try rfl)]
      refine upto _ ?_
      rw [hk] at ew
      rw [ew] at loop ⊢
      refine wa_tableIn (pc := 29) (y := mX6_account) 122 dX6_account_29 (by decide) (by decide) rfl rfl ?_
      refine wa_iconst (pc := 122) (y := mX6_account) (Int32.ofNat 0) dX6_account_122 rfl ?_
      refine wa_istore_n (pc := 123) (y := mX6_account) dX6_account_123 (Nat.le_of_ble_eq_true rfl) rfl ?_
      change WA _ _ _ _ (List.set _ 2 _) _ _ _
      simp only [List.set_cons_zero, List.set_cons_succ]
      refine wa_iconst (pc := 124) (y := mX6_account) (Int32.ofNat 0) dX6_account_124 rfl ?_
      refine wa_istore_n (pc := 125) (y := mX6_account) dX6_account_125 (Nat.le_of_ble_eq_true rfl) rfl ?_
      change WA _ _ _ _ (List.set _ 3 _) _ _ _
      simp only [List.set_cons_zero, List.set_cons_succ]
      exact loop (u (f 1)) 0 (by omega)
    | k + 11, e => omega
  · rw [show O_account f σ w = _ from if_pos e0]
    first | refine wa_aload_n (pc := 0) (y := mX6_account) dX6_account_0 rfl ?_ | refine wa_aload_nN (pc := 0) (y := mX6_account) dX6_account_0 rfl ?_ | refine wa_aload_nq (pc := 0) (y := mX6_account) dX6_account_0 rfl ?_
    refine wa_iload_n (pc := 1) (y := mX6_account) dX6_account_1 rfl ?_
    refine wa_iconst (pc := 2) (y := mX6_account) (Int32.ofNat 0) dX6_account_2 rfl ?_
    refine wa_bipush (pc := 3) (y := mX6_account) (Int32.ofNat 10) dX6_account_3 rfl ?_
    refine wa_callS (pc := 5) (s_X6_in (d := d - 1)) dX6_account_5 okX6_in q2716 q2717 rfl rfl (Nat.le_of_ble_eq_true rfl) (Nat.le_of_ble_eq_true rfl) (by omega) ?_
    rintro _ _ - - ⟨rfl, rfl⟩
    refine aft_v (pc2 := 8) ?_ rfl
    rw [show inb w (Int32.ofNat 0) (Int32.ofNat 10) = false from (inb_le (by omega)).trans (decide_eq_false e0)]
    refine wa_if_eq (pc := 8) 15 dX6_account_8 rfl (fun hb8 => ?_) (fun hb8 => absurd rfl hb8)
    refine wa_iconst (pc := 15) (y := mX6_account) (Int32.ofNat 1) dX6_account_15 rfl ?_
    refine wa_putf (pc := 16) (y := mX6_account) (k := 5) 7 .int dX6_account_16 mH_o rfl q2650 (Or.inl rfl) (Nat.le_of_ble_eq_true rfl) rfl (by decide +kernel) rfl rfl ?_
    rw [mW_o7]
    first | refine wa_aload_n (pc := 19) (y := mX6_account) dX6_account_19 rfl ?_ | refine wa_aload_nN (pc := 19) (y := mX6_account) dX6_account_19 rfl ?_ | refine wa_aload_nq (pc := 19) (y := mX6_account) dX6_account_19 rfl ?_
    refine wa_getf (pc := 20) (y := mX6_account) (k := 5) 7 dX6_account_20 mH_o rfl q2650 (Or.inl rfl) (Nat.le_of_ble_eq_true rfl) (by rfl) ?_
    show WA _ _ _ _ _ (.int (Int32.ofNat 1) :: _) _ _
    refine wa_if_le (pc := 23) 28 dX6_account_23 rfl (fun hb23 => absurd hb23 (by decide)) (fun hb23 => ?_)
    clear hb23
    refine wa_iconst (pc := 26) (y := mX6_account) (Int32.ofNat 0) dX6_account_26 rfl ?_
    exact wa_ireturn (pc := 27) (y := mX6_account) .int dX6_account_27 rfl rfl ⟨rfl, rfl⟩
end MTOP4
