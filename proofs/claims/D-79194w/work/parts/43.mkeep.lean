/-! ===== CueStackModel: begin, keepState, change, refuse, keepLevels ===== -/
theorem mV_s (σ : MS) (i : Nat) (v : Int32) : (mV σ i v).2 i = v := if_pos rfl
theorem mA_s (σ : MS) (i : Nat) (g : Nat → Int32) : (mA σ i g).1 i = g := if_pos rfl
theorem cpF_all {f g : Nat → Int32} {n j : Nat} (h : j < n) : cpF f g 0 0 n j = f j := by
  unfold cpF
  rw [if_pos (by omega)]
  congr 1
  omega
theorem mW_o3 {h : AH} {m : Nat} {f : Nat → Int32} {σ : MS} (v : Int32) : ah_upd (mH h m f σ) m (5, (mF m σ).set 3 (.int v)) = mH h m f (mV σ 3 v) := mW_o 3 v rfl
theorem mW_o5 {h : AH} {m : Nat} {f : Nat → Int32} {σ : MS} (v : Int32) : ah_upd (mH h m f σ) m (5, (mF m σ).set 5 (.int v)) = mH h m f (mV σ 5 v) := mW_o 5 v rfl
theorem mW_o6 {h : AH} {m : Nat} {f : Nat → Int32} {σ : MS} (v : Int32) : ah_upd (mH h m f σ) m (5, (mF m σ).set 6 (.int v)) = mH h m f (mV σ 6 v) := mW_o 6 v rfl
theorem mW_o7 {h : AH} {m : Nat} {f : Nat → Int32} {σ : MS} (v : Int32) : ah_upd (mH h m f σ) m (5, (mF m σ).set 7 (.int v)) = mH h m f (mV σ 7 v) := mW_o 7 v rfl
theorem mW_o10 {h : AH} {m : Nat} {f : Nat → Int32} {σ : MS} (v : Int32) : ah_upd (mH h m f σ) m (5, (mF m σ).set 10 (.int v)) = mH h m f (mV σ 10 v) := mW_o 10 v rfl
theorem mW_o11 {h : AH} {m : Nat} {f : Nat → Int32} {σ : MS} (v : Int32) : ah_upd (mH h m f σ) m (5, (mF m σ).set 11 (.int v)) = mH h m f (mV σ 11 v) := mW_o 11 v rfl
theorem mW_o12 {h : AH} {m : Nat} {f : Nat → Int32} {σ : MS} (v : Int32) : ah_upd (mH h m f σ) m (5, (mF m σ).set 12 (.int v)) = mH h m f (mV σ 12 v) := mW_o 12 v rfl
theorem mW_o13 {h : AH} {m : Nat} {f : Nat → Int32} {σ : MS} (v : Int32) : ah_upd (mH h m f σ) m (5, (mF m σ).set 13 (.int v)) = mH h m f (mV σ 13 v) := mW_o 13 v rfl
theorem mW_o16 {h : AH} {m : Nat} {f : Nat → Int32} {σ : MS} (v : Int32) : ah_upd (mH h m f σ) m (5, (mF m σ).set 16 (.int v)) = mH h m f (mV σ 16 v) := mW_o 16 v rfl
def pshP (past b : Nat → Int32) (pm : Nat) : Nat → Int32 := if pm = 6 then cpF b (cpF past past 462 0 2310) 0 2310 462 else cpF b past 0 (462 * pm) 462
def pshN (pm : Nat) : Nat := if pm = 6 then 6 else pm + 1
/-- change: what was kept goes to the past -/
def chg (σ : MS) : MS := mV (mA σ 4 (pshP (σ.1 4) (σ.1 1) (u (σ.2 5)))) 5 (Int32.ofNat (pshN (u (σ.2 5))))
/-- the first levels, as they are -/
def klF (f old : Nat → Int32) (n : Nat) : Nat → Int32 := fun j => if j < n then lvN f (j % 12) (j / 12 + 1) else old j
section MKEEP
variable {G : GG} {d : Nat} {h : AH} {m : Nat} {f : Nat → Int32} {σ : MS}
theorem s_X6_begin (hd : 1 ≤ d) : MA G d mX6_begin [.ref m] (mH h m f σ) (fun r h' => r = .inl none ∧ h' = mH h m (fun _ => 0) (mV σ 5 (Int32.ofNat 0))) := by
  have key : ∀ t k, k + t = 462 → WA G d mX6_begin 2 [.ref m, .int (Int32.ofNat k)] [] (mH h m (fun j => if j < k then 0 else f j) σ) (fun r h' => r = .inl none ∧ h' = mH h m (fun _ => 0) (mV σ 5 (Int32.ofNat 0))) := by
    intro t
    induction t with
    | zero =>
      intro k hk
      replace hk : k + 0 = 462 := hk
      rw [mH_cg (f := fun j => if j < k then 0 else f j) (g := fun _ => (0 : Int32)) (fun j hj => if_pos (by omega))]
      refine wa_iload_n (pc := 2) (y := mX6_begin) dX6_begin_2 rfl ?_
      refine wa_sipush (pc := 3) (y := mX6_begin) (Int32.ofNat 462) dX6_begin_3 rfl ?_
      refine wa_icmp_ge (pc := 6) 22 dX6_begin_6 rfl (fun hb6 => ?_) (fun hb6 => absurd ((iN_le (by omega) (by omega)).mpr (by omega)) hb6)
      first | refine wa_aload_n (pc := 22) (y := mX6_begin) dX6_begin_22 rfl ?_ | refine wa_aload_nN (pc := 22) (y := mX6_begin) dX6_begin_22 rfl ?_ | refine wa_aload_nq (pc := 22) (y := mX6_begin) dX6_begin_22 rfl ?_
      refine wa_iconst (pc := 23) (y := mX6_begin) (Int32.ofNat 0) dX6_begin_23 rfl ?_
      refine wa_putf (pc := 24) (y := mX6_begin) (k := 5) 5 .int dX6_begin_24 mH_o rfl q2648 (Or.inl rfl) (Nat.le_of_ble_eq_true rfl) rfl (by decide +kernel) rfl rfl ?_
      rw [mW_o5]
      exact wa_return (pc := 27) (y := mX6_begin) dX6_begin_27 rfl ⟨rfl, rfl⟩
    | succ t ih =>
      intro k hk
      have es : upd (fun j => if j < k then (0 : Int32) else f j) k (Int32.ofNat 0) = (fun j => if j < k + 1 then 0 else f j) := funext fun j => by
        unfold upd
        by_cases e : j = k
        · rw [if_pos e, if_pos (by omega)]; rfl
        · rw [if_neg e]
          show (if j < k then (0 : Int32) else f j) = _
          by_cases e2 : j < k
          · rw [if_pos e2, if_pos (by omega)]
          · rw [if_neg e2, if_neg (by omega)]
      refine wa_iload_n (pc := 2) (y := mX6_begin) dX6_begin_2 rfl ?_
      refine wa_sipush (pc := 3) (y := mX6_begin) (Int32.ofNat 462) dX6_begin_3 rfl ?_
      refine wa_icmp_ge (pc := 6) 22 dX6_begin_6 rfl (fun hb6 => absurd ((iN_le (by omega) (by omega)).mp hb6) (by omega)) (fun hb6 => ?_)
      first | refine wa_aload_n (pc := 9) (y := mX6_begin) dX6_begin_9 rfl ?_ | refine wa_aload_nN (pc := 9) (y := mX6_begin) dX6_begin_9 rfl ?_ | refine wa_aload_nq (pc := 9) (y := mX6_begin) dX6_begin_9 rfl ?_
      refine wa_getf (pc := 10) (y := mX6_begin) (k := 5) 0 dX6_begin_10 mH_o rfl q2643 (Or.inl rfl) (Nat.le_of_ble_eq_true rfl) (by rfl) ?_
      refine wa_iload_n (pc := 13) (y := mX6_begin) dX6_begin_13 rfl ?_
      refine wa_iconst (pc := 14) (y := mX6_begin) (Int32.ofNat 0) dX6_begin_14 rfl ?_
      refine wa_iastoreN (pc := 15) (y := mX6_begin) dX6_begin_15 mH_1 (by omega) ?_
      rw [mW_1]
      rw [es]
      first | with_reducible refine wa_iincN (pc := 16) (y := mX6_begin) dX6_begin_16 rfl (Nat.le_of_ble_eq_true rfl) rfl ?_ | refine wa_iinc (pc := 16) (y := mX6_begin) (1) dX6_begin_16 rfl rfl (Nat.le_of_ble_eq_true rfl) rfl ?_
      simp only [List.set_cons_zero, List.set_cons_succ]
      refine wa_goto (pc := 19) (y := mX6_begin) 2 dX6_begin_19 rfl ?_
      exact ih (k + 1) (by omega)
  show WA _ _ _ 0 [.ref m, .retAddr 0] [] _ _
  rw [mH_cg (g := fun j => if j < 0 then (0 : Int32) else f j) (fun j hj => (if_neg (by omega)).symm)]
  refine wa_iconst (pc := 0) (y := mX6_begin) (Int32.ofNat 0) dX6_begin_0 rfl ?_
  refine wa_istore_n (pc := 1) (y := mX6_begin) dX6_begin_1 (Nat.le_of_ble_eq_true rfl) rfl ?_
  change WA _ _ _ _ (List.set _ 1 _) _ _ _
  simp only [List.set_cons_zero, List.set_cons_succ]
  exact key 462 0 (by omega)
theorem s_X6_keepState (hd : 1 ≤ d) : MA G d mX6_keepState [.ref m] (mH h m f σ) (fun r h' => r = .inl none ∧ h' = mH h m f (mA σ 1 f)) := by
  show WA _ _ _ 0 [.ref m] [] _ _
  first | refine wa_aload_n (pc := 0) (y := mX6_keepState) dX6_keepState_0 rfl ?_ | refine wa_aload_nN (pc := 0) (y := mX6_keepState) dX6_keepState_0 rfl ?_ | refine wa_aload_nq (pc := 0) (y := mX6_keepState) dX6_keepState_0 rfl ?_
  refine wa_getf (pc := 1) (y := mX6_keepState) (k := 5) 0 dX6_keepState_1 mH_o rfl q2643 (Or.inl rfl) (Nat.le_of_ble_eq_true rfl) (by rfl) ?_
  refine wa_iconst (pc := 4) (y := mX6_keepState) (Int32.ofNat 0) dX6_keepState_4 rfl ?_
  first | refine wa_aload_n (pc := 5) (y := mX6_keepState) dX6_keepState_5 rfl ?_ | refine wa_aload_nN (pc := 5) (y := mX6_keepState) dX6_keepState_5 rfl ?_ | refine wa_aload_nq (pc := 5) (y := mX6_keepState) dX6_keepState_5 rfl ?_
  refine wa_getf (pc := 6) (y := mX6_keepState) (k := 5) 1 dX6_keepState_6 mH_o rfl q2644 (Or.inl rfl) (Nat.le_of_ble_eq_true rfl) (by rfl) ?_
  refine wa_iconst (pc := 9) (y := mX6_keepState) (Int32.ofNat 0) dX6_keepState_9 rfl ?_
  refine wa_sipush (pc := 10) (y := mX6_keepState) (Int32.ofNat 462) dX6_keepState_10 rfl ?_
  refine wa_copyN (pc := 13) dX6_keepState_13 q2711 q352 q351 q96 mH_1 mH_2 (by omega) (Nat.le_of_ble_eq_true rfl) (by omega) ?_
  rw [mW_2]
  rw [mH_cA (g2 := f) (Or.inl ⟨rfl, rfl⟩) (fun j hj => cpF_all hj)]
  exact wa_return (pc := 16) (y := mX6_keepState) dX6_keepState_16 rfl ⟨rfl, rfl⟩
theorem s_X6_change (hd : 1 ≤ d) (hp : u (σ.2 5) ≤ 6) : MA G d mX6_change [.ref m] (mH h m f σ) (fun r h' => r = .inl none ∧ h' = mH h m f (chg σ)) := by
  show WA _ _ _ 0 [.ref m] [] _ _
  by_cases e6 : u (σ.2 5) = 6
  · have e5 : σ.2 5 = Int32.ofNat 6 := by rw [← e6, u_self]
    first | refine wa_aload_n (pc := 0) (y := mX6_change) dX6_change_0 rfl ?_ | refine wa_aload_nN (pc := 0) (y := mX6_change) dX6_change_0 rfl ?_ | refine wa_aload_nq (pc := 0) (y := mX6_change) dX6_change_0 rfl ?_
    refine wa_getf (pc := 1) (y := mX6_change) (k := 5) 5 dX6_change_1 mH_o rfl q2648 (Or.inl rfl) (Nat.le_of_ble_eq_true rfl) (by rfl) ?_
    rw [e5]
    refine wa_bipush (pc := 4) (y := mX6_change) (Int32.ofNat 6) dX6_change_4 rfl ?_
    refine wa_icmp_ne (pc := 6) 37 dX6_change_6 rfl (fun hb6 => absurd rfl hb6) (fun hb6 => ?_)
    first | refine wa_aload_n (pc := 9) (y := mX6_change) dX6_change_9 rfl ?_ | refine wa_aload_nN (pc := 9) (y := mX6_change) dX6_change_9 rfl ?_ | refine wa_aload_nq (pc := 9) (y := mX6_change) dX6_change_9 rfl ?_
    refine wa_getf (pc := 10) (y := mX6_change) (k := 5) 4 dX6_change_10 mH_o rfl q2647 (Or.inl rfl) (Nat.le_of_ble_eq_true rfl) (by rfl) ?_
    refine wa_sipush (pc := 13) (y := mX6_change) (Int32.ofNat 462) dX6_change_13 rfl ?_
    first | refine wa_aload_n (pc := 16) (y := mX6_change) dX6_change_16 rfl ?_ | refine wa_aload_nN (pc := 16) (y := mX6_change) dX6_change_16 rfl ?_ | refine wa_aload_nq (pc := 16) (y := mX6_change) dX6_change_16 rfl ?_
    refine wa_getf (pc := 17) (y := mX6_change) (k := 5) 4 dX6_change_17 mH_o rfl q2647 (Or.inl rfl) (Nat.le_of_ble_eq_true rfl) (by rfl) ?_
    refine wa_iconst (pc := 20) (y := mX6_change) (Int32.ofNat 0) dX6_change_20 rfl ?_
    refine wa_sipush (pc := 21) (y := mX6_change) (Int32.ofNat 2310) dX6_change_21 rfl ?_
    refine wa_copyN (pc := 24) dX6_change_24 q2711 q352 q351 q96 mH_4 mH_4 (by omega) (Nat.le_of_ble_eq_true rfl) (by omega) ?_
    rw [mW_4]
    first | refine wa_aload_n (pc := 27) (y := mX6_change) dX6_change_27 rfl ?_ | refine wa_aload_nN (pc := 27) (y := mX6_change) dX6_change_27 rfl ?_ | refine wa_aload_nq (pc := 27) (y := mX6_change) dX6_change_27 rfl ?_
    refine wa_dup (pc := 28) (y := mX6_change) dX6_change_28 rfl ?_
    refine wa_getf (pc := 29) (y := mX6_change) (k := 5) 5 dX6_change_29 mH_o rfl q2648 (Or.inl rfl) (Nat.le_of_ble_eq_true rfl) (by rfl) ?_
    rw [mA_2, e5]
    refine wa_iconst (pc := 32) (y := mX6_change) (Int32.ofNat 1) dX6_change_32 rfl ?_
    refine wa_isubN (pc := 33) (y := mX6_change) dX6_change_33 (by omega) ?_
    refine wa_putf (pc := 34) (y := mX6_change) (k := 5) 5 .int dX6_change_34 mH_o rfl q2648 (Or.inl rfl) (Nat.le_of_ble_eq_true rfl) rfl (by decide +kernel) rfl rfl ?_
    rw [mW_o5]
    first | refine wa_aload_n (pc := 37) (y := mX6_change) dX6_change_37 rfl ?_ | refine wa_aload_nN (pc := 37) (y := mX6_change) dX6_change_37 rfl ?_ | refine wa_aload_nq (pc := 37) (y := mX6_change) dX6_change_37 rfl ?_
    refine wa_getf (pc := 38) (y := mX6_change) (k := 5) 1 dX6_change_38 mH_o rfl q2644 (Or.inl rfl) (Nat.le_of_ble_eq_true rfl) (by rfl) ?_
    refine wa_iconst (pc := 41) (y := mX6_change) (Int32.ofNat 0) dX6_change_41 rfl ?_
    first | refine wa_aload_n (pc := 42) (y := mX6_change) dX6_change_42 rfl ?_ | refine wa_aload_nN (pc := 42) (y := mX6_change) dX6_change_42 rfl ?_ | refine wa_aload_nq (pc := 42) (y := mX6_change) dX6_change_42 rfl ?_
    refine wa_getf (pc := 43) (y := mX6_change) (k := 5) 4 dX6_change_43 mH_o rfl q2647 (Or.inl rfl) (Nat.le_of_ble_eq_true rfl) (by rfl) ?_
    refine wa_sipush (pc := 46) (y := mX6_change) (Int32.ofNat 462) dX6_change_46 rfl ?_
    first | refine wa_aload_n (pc := 49) (y := mX6_change) dX6_change_49 rfl ?_ | refine wa_aload_nN (pc := 49) (y := mX6_change) dX6_change_49 rfl ?_ | refine wa_aload_nq (pc := 49) (y := mX6_change) dX6_change_49 rfl ?_
    refine wa_getf (pc := 50) (y := mX6_change) (k := 5) 5 dX6_change_50 mH_o rfl q2648 (Or.inl rfl) (Nat.le_of_ble_eq_true rfl) (by rfl) ?_
    rw [mV_s]
    first | with_reducible refine wa_imulN (pc := 53) (y := mX6_change) dX6_change_53 ?_ | refine wa_imul (pc := 53) (y := mX6_change) dX6_change_53 ?_
    refine wa_sipush (pc := 54) (y := mX6_change) (Int32.ofNat 462) dX6_change_54 rfl ?_
    refine wa_copyN (pc := 57) dX6_change_57 q2711 q352 q351 q96 mH_2 mH_4 (by omega) (Nat.le_of_ble_eq_true rfl) (by omega) ?_
    rw [mW_4]
    first | refine wa_aload_n (pc := 60) (y := mX6_change) dX6_change_60 rfl ?_ | refine wa_aload_nN (pc := 60) (y := mX6_change) dX6_change_60 rfl ?_ | refine wa_aload_nq (pc := 60) (y := mX6_change) dX6_change_60 rfl ?_
    refine wa_dup (pc := 61) (y := mX6_change) dX6_change_61 rfl ?_
    refine wa_getf (pc := 62) (y := mX6_change) (k := 5) 5 dX6_change_62 mH_o rfl q2648 (Or.inl rfl) (Nat.le_of_ble_eq_true rfl) (by rfl) ?_
    rw [mA_2, mV_s]
    refine wa_iconst (pc := 65) (y := mX6_change) (Int32.ofNat 1) dX6_change_65 rfl ?_
    first | with_reducible refine wa_iaddN (pc := 66) (y := mX6_change) dX6_change_66 ?_ | refine wa_iadd (pc := 66) (y := mX6_change) dX6_change_66 ?_
    refine wa_putf (pc := 67) (y := mX6_change) (k := 5) 5 .int dX6_change_67 mH_o rfl q2648 (Or.inl rfl) (Nat.le_of_ble_eq_true rfl) rfl (by decide +kernel) rfl rfl ?_
    rw [mW_o5]
    exact wa_return (pc := 70) (y := mX6_change) dX6_change_70 rfl ⟨rfl, by congr 1; unfold chg pshP pshN; rw [if_pos e6, if_pos e6]; unfold mA mV; congr 1 <;> funext k <;> by_cases e : k = 4 <;> by_cases e2 : k = 5 <;> simp_all⟩
  · first | refine wa_aload_n (pc := 0) (y := mX6_change) dX6_change_0 rfl ?_ | refine wa_aload_nN (pc := 0) (y := mX6_change) dX6_change_0 rfl ?_ | refine wa_aload_nq (pc := 0) (y := mX6_change) dX6_change_0 rfl ?_
    refine wa_getf (pc := 1) (y := mX6_change) (k := 5) 5 dX6_change_1 mH_o rfl q2648 (Or.inl rfl) (Nat.le_of_ble_eq_true rfl) (by rfl) ?_
    rw [← u_self (σ.2 5)]
    refine wa_bipush (pc := 4) (y := mX6_change) (Int32.ofNat 6) dX6_change_4 rfl ?_
    refine wa_icmp_ne (pc := 6) 37 dX6_change_6 rfl (fun hb6 => ?_) (fun hb6 => absurd ((iN_eq (by omega) (by omega)).mp hb6) e6)
    first | refine wa_aload_n (pc := 37) (y := mX6_change) dX6_change_37 rfl ?_ | refine wa_aload_nN (pc := 37) (y := mX6_change) dX6_change_37 rfl ?_ | refine wa_aload_nq (pc := 37) (y := mX6_change) dX6_change_37 rfl ?_
    refine wa_getf (pc := 38) (y := mX6_change) (k := 5) 1 dX6_change_38 mH_o rfl q2644 (Or.inl rfl) (Nat.le_of_ble_eq_true rfl) (by rfl) ?_
    refine wa_iconst (pc := 41) (y := mX6_change) (Int32.ofNat 0) dX6_change_41 rfl ?_
    first | refine wa_aload_n (pc := 42) (y := mX6_change) dX6_change_42 rfl ?_ | refine wa_aload_nN (pc := 42) (y := mX6_change) dX6_change_42 rfl ?_ | refine wa_aload_nq (pc := 42) (y := mX6_change) dX6_change_42 rfl ?_
    refine wa_getf (pc := 43) (y := mX6_change) (k := 5) 4 dX6_change_43 mH_o rfl q2647 (Or.inl rfl) (Nat.le_of_ble_eq_true rfl) (by rfl) ?_
    refine wa_sipush (pc := 46) (y := mX6_change) (Int32.ofNat 462) dX6_change_46 rfl ?_
    first | refine wa_aload_n (pc := 49) (y := mX6_change) dX6_change_49 rfl ?_ | refine wa_aload_nN (pc := 49) (y := mX6_change) dX6_change_49 rfl ?_ | refine wa_aload_nq (pc := 49) (y := mX6_change) dX6_change_49 rfl ?_
    refine wa_getf (pc := 50) (y := mX6_change) (k := 5) 5 dX6_change_50 mH_o rfl q2648 (Or.inl rfl) (Nat.le_of_ble_eq_true rfl) (by rfl) ?_
    rw [← u_self (σ.2 5)]
    first | with_reducible refine wa_imulN (pc := 53) (y := mX6_change) dX6_change_53 ?_ | refine wa_imul (pc := 53) (y := mX6_change) dX6_change_53 ?_
    refine wa_sipush (pc := 54) (y := mX6_change) (Int32.ofNat 462) dX6_change_54 rfl ?_
    refine wa_copyN (pc := 57) dX6_change_57 q2711 q352 q351 q96 mH_2 mH_4 (by omega) (Nat.le_of_ble_eq_true rfl) (by omega) ?_
    rw [mW_4]
    first | refine wa_aload_n (pc := 60) (y := mX6_change) dX6_change_60 rfl ?_ | refine wa_aload_nN (pc := 60) (y := mX6_change) dX6_change_60 rfl ?_ | refine wa_aload_nq (pc := 60) (y := mX6_change) dX6_change_60 rfl ?_
    refine wa_dup (pc := 61) (y := mX6_change) dX6_change_61 rfl ?_
    refine wa_getf (pc := 62) (y := mX6_change) (k := 5) 5 dX6_change_62 mH_o rfl q2648 (Or.inl rfl) (Nat.le_of_ble_eq_true rfl) (by rfl) ?_
    rw [mA_2, ← u_self (σ.2 5)]
    refine wa_iconst (pc := 65) (y := mX6_change) (Int32.ofNat 1) dX6_change_65 rfl ?_
    first | with_reducible refine wa_iaddN (pc := 66) (y := mX6_change) dX6_change_66 ?_ | refine wa_iadd (pc := 66) (y := mX6_change) dX6_change_66 ?_
    refine wa_putf (pc := 67) (y := mX6_change) (k := 5) 5 .int dX6_change_67 mH_o rfl q2648 (Or.inl rfl) (Nat.le_of_ble_eq_true rfl) rfl (by decide +kernel) rfl rfl ?_
    rw [mW_o5]
    exact wa_return (pc := 70) (y := mX6_change) dX6_change_70 rfl ⟨rfl, by congr 1; unfold chg pshP pshN; rw [if_neg e6, if_neg e6, u_of (by omega)]⟩
theorem s_X6_changes (hd : 2 ≤ d) (hp : u (σ.2 5) ≤ 6) : MA G d mX6_changes [.ref m] (mH h m f σ) (fun r h' => r = .inl none ∧ h' = mH h m f (chg (mA σ 1 f))) := by
  show WA _ _ _ 0 [.ref m] [] _ _
  first | refine wa_aload_n (pc := 0) (y := mX6_changes) dX6_changes_0 rfl ?_ | refine wa_aload_nN (pc := 0) (y := mX6_changes) dX6_changes_0 rfl ?_ | refine wa_aload_nq (pc := 0) (y := mX6_changes) dX6_changes_0 rfl ?_
  refine wa_callV (pc := 1) (s_X6_keepState (d := d - 1) (by omega)) dX6_changes_1 okX6_keepState q2707 q2709 qs39 mH_o rfl rfl rfl (Nat.le_of_ble_eq_true rfl) (Nat.le_of_ble_eq_true rfl) (by omega) ?_
  rintro _ _ - - ⟨rfl, rfl⟩
  refine aft_0 (pc2 := 4) ?_ rfl
  first | refine wa_aload_n (pc := 4) (y := mX6_changes) dX6_changes_4 rfl ?_ | refine wa_aload_nN (pc := 4) (y := mX6_changes) dX6_changes_4 rfl ?_ | refine wa_aload_nq (pc := 4) (y := mX6_changes) dX6_changes_4 rfl ?_
  refine wa_callV (pc := 5) (s_X6_change (d := d - 1) (by omega) hp) dX6_changes_5 okX6_change q2730 q2732 qs43 mH_o rfl rfl rfl (Nat.le_of_ble_eq_true rfl) (Nat.le_of_ble_eq_true rfl) (by omega) ?_
  rintro _ _ - - ⟨rfl, rfl⟩
  refine aft_0 (pc2 := 8) ?_ rfl
  exact wa_return (pc := 8) (y := mX6_changes) dX6_changes_8 rfl ⟨rfl, rfl⟩
theorem s_X6_refuse {w : Int32} (hd : 1 ≤ d) : MA G d mX6_refuse [.ref m, .int w] (mH h m f σ) (fun r h' => r = .inl (some (.int w)) ∧ h' = mH h m (σ.1 1) (mV σ 6 w)) := by
  show WA _ _ _ 0 [.ref m, .int w] [] _ _
  first | refine wa_aload_n (pc := 0) (y := mX6_refuse) dX6_refuse_0 rfl ?_ | refine wa_aload_nN (pc := 0) (y := mX6_refuse) dX6_refuse_0 rfl ?_ | refine wa_aload_nq (pc := 0) (y := mX6_refuse) dX6_refuse_0 rfl ?_
  refine wa_iload_n (pc := 1) (y := mX6_refuse) dX6_refuse_1 rfl ?_
  refine wa_putf (pc := 2) (y := mX6_refuse) (k := 5) 6 .int dX6_refuse_2 mH_o rfl q2649 (Or.inl rfl) (Nat.le_of_ble_eq_true rfl) rfl (by decide +kernel) rfl rfl ?_
  rw [mW_o6]
  first | refine wa_aload_n (pc := 5) (y := mX6_refuse) dX6_refuse_5 rfl ?_ | refine wa_aload_nN (pc := 5) (y := mX6_refuse) dX6_refuse_5 rfl ?_ | refine wa_aload_nq (pc := 5) (y := mX6_refuse) dX6_refuse_5 rfl ?_
  refine wa_getf (pc := 6) (y := mX6_refuse) (k := 5) 1 dX6_refuse_6 mH_o rfl q2644 (Or.inl rfl) (Nat.le_of_ble_eq_true rfl) (by rfl) ?_
  refine wa_iconst (pc := 9) (y := mX6_refuse) (Int32.ofNat 0) dX6_refuse_9 rfl ?_
  first | refine wa_aload_n (pc := 10) (y := mX6_refuse) dX6_refuse_10 rfl ?_ | refine wa_aload_nN (pc := 10) (y := mX6_refuse) dX6_refuse_10 rfl ?_ | refine wa_aload_nq (pc := 10) (y := mX6_refuse) dX6_refuse_10 rfl ?_
  refine wa_getf (pc := 11) (y := mX6_refuse) (k := 5) 0 dX6_refuse_11 mH_o rfl q2643 (Or.inl rfl) (Nat.le_of_ble_eq_true rfl) (by rfl) ?_
  refine wa_iconst (pc := 14) (y := mX6_refuse) (Int32.ofNat 0) dX6_refuse_14 rfl ?_
  refine wa_sipush (pc := 15) (y := mX6_refuse) (Int32.ofNat 462) dX6_refuse_15 rfl ?_
  refine wa_copyN (pc := 18) dX6_refuse_18 q2711 q352 q351 q96 mH_2 mH_1 (by omega) (Nat.le_of_ble_eq_true rfl) (by omega) ?_
  rw [mW_1]
  rw [mV_1, mH_cg (g := σ.1 1) (fun j hj => cpF_all hj)]
  refine wa_iload_n (pc := 21) (y := mX6_refuse) dX6_refuse_21 rfl ?_
  exact wa_ireturn (pc := 22) (y := mX6_refuse) .int dX6_refuse_22 rfl rfl ⟨rfl, rfl⟩
theorem s_X6_keepLevels (hd : 3 ≤ d) (hI : Inv f) : MA G d mX6_keepLevels [.ref m] (mH h m f σ) (fun r h' => r = .inl none ∧ h' = mH h m f (mA σ 8 (klF f (σ.1 8) (12 * u (f 0))))) := by
  have hn := hI.1
  have key : ∀ t k q, k + t = u (f 0) → WA G d mX6_keepLevels 2 [.ref m, .int (Int32.ofNat k), q] [] (mH h m f (mA σ 8 (klF f (σ.1 8) (12 * k)))) (fun r h' => r = .inl none ∧ h' = mH h m f (mA σ 8 (klF f (σ.1 8) (12 * u (f 0))))) := by
    intro t
    induction t with
    | zero =>
      intro k q hk
      refine wa_iload_n (pc := 2) (y := mX6_keepLevels) dX6_keepLevels_2 rfl ?_
      first | refine wa_aload_n (pc := 3) (y := mX6_keepLevels) dX6_keepLevels_3 rfl ?_ | refine wa_aload_nN (pc := 3) (y := mX6_keepLevels) dX6_keepLevels_3 rfl ?_ | refine wa_aload_nq (pc := 3) (y := mX6_keepLevels) dX6_keepLevels_3 rfl ?_
      refine wa_getf (pc := 4) (y := mX6_keepLevels) (k := 5) 0 dX6_keepLevels_4 mH_o rfl q2643 (Or.inl rfl) (Nat.le_of_ble_eq_true rfl) (by rfl) ?_
      refine wa_iconst (pc := 7) (y := mX6_keepLevels) (Int32.ofNat 0) dX6_keepLevels_7 rfl ?_
      refine wa_ialoadU (pc := 8) (y := mX6_keepLevels) dX6_keepLevels_8 mH_1 (by omega) ?_
      refine wa_icmp_ge (pc := 9) 49 dX6_keepLevels_9 rfl (fun hb9 => ?_) (fun hb9 => absurd ((iN_le (by omega) (by omega)).mpr (by omega)) hb9)
      exact wa_return (pc := 49) (y := mX6_keepLevels) dX6_keepLevels_49 rfl ⟨rfl, by rw [show k = u (f 0) by omega]⟩
    | succ t ih =>
      intro k q hk
      have inn : ∀ t2 c, c + t2 = 12 → WA G d mX6_keepLevels 14 [.ref m, .int (Int32.ofNat k), .int (Int32.ofNat c)] [] (mH h m f (mA σ 8 (klF f (σ.1 8) (12 * k + c)))) (fun r h' => r = .inl none ∧ h' = mH h m f (mA σ 8 (klF f (σ.1 8) (12 * u (f 0))))) := by
        intro t2
        induction t2 with
        | zero =>
          intro c hc
          replace hc : c + 0 = 12 := hc
          refine wa_iload_n (pc := 14) (y := mX6_keepLevels) dX6_keepLevels_14 rfl ?_
          refine wa_bipush (pc := 15) (y := mX6_keepLevels) (Int32.ofNat 12) dX6_keepLevels_15 rfl ?_
          refine wa_icmp_ge (pc := 17) 43 dX6_keepLevels_17 rfl (fun hb17 => ?_) (fun hb17 => absurd ((iN_le (by omega) (by omega)).mpr (by omega)) hb17)
          rw [show 12 * k + c = 12 * (k + 1) by omega]
          first | with_reducible refine wa_iincN (pc := 43) (y := mX6_keepLevels) dX6_keepLevels_43 rfl (Nat.le_of_ble_eq_true rfl) rfl ?_ | refine wa_iinc (pc := 43) (y := mX6_keepLevels) (1) dX6_keepLevels_43 rfl rfl (Nat.le_of_ble_eq_true rfl) rfl ?_
          simp only [List.set_cons_zero, List.set_cons_succ]
          refine wa_goto (pc := 46) (y := mX6_keepLevels) 2 dX6_keepLevels_46 rfl ?_
          exact ih (k + 1) _ (by omega)
        | succ t2 ih2 =>
          intro c hc
          have es : upd (klF f (σ.1 8) (12 * k + c)) (12 * k + c) (lvN f c (k + 1)) = klF f (σ.1 8) (12 * k + (c + 1)) := by
            funext j
            unfold upd klF
            by_cases e : j = 12 * k + c
            · rw [if_pos e, if_pos (by omega), show j % 12 = c by omega, show j / 12 = k by omega]
            · rw [if_neg e]
              by_cases e2 : j < 12 * k + c
              · rw [if_pos e2, if_pos (by omega)]
              · rw [if_neg e2, if_neg (by omega)]
          refine wa_iload_n (pc := 14) (y := mX6_keepLevels) dX6_keepLevels_14 rfl ?_
          refine wa_bipush (pc := 15) (y := mX6_keepLevels) (Int32.ofNat 12) dX6_keepLevels_15 rfl ?_
          refine wa_icmp_ge (pc := 17) 43 dX6_keepLevels_17 rfl (fun hb17 => absurd ((iN_le (by omega) (by omega)).mp hb17) (by omega)) (fun hb17 => ?_)
          first | refine wa_aload_n (pc := 20) (y := mX6_keepLevels) dX6_keepLevels_20 rfl ?_ | refine wa_aload_nN (pc := 20) (y := mX6_keepLevels) dX6_keepLevels_20 rfl ?_ | refine wa_aload_nq (pc := 20) (y := mX6_keepLevels) dX6_keepLevels_20 rfl ?_
          refine wa_getf (pc := 21) (y := mX6_keepLevels) (k := 5) 8 dX6_keepLevels_21 mH_o rfl q2651 (Or.inl rfl) (Nat.le_of_ble_eq_true rfl) (by rfl) ?_
          refine wa_bipush (pc := 24) (y := mX6_keepLevels) (Int32.ofNat 12) dX6_keepLevels_24 rfl ?_
          refine wa_iload_n (pc := 26) (y := mX6_keepLevels) dX6_keepLevels_26 rfl ?_
          first | with_reducible refine wa_imulN (pc := 27) (y := mX6_keepLevels) dX6_keepLevels_27 ?_ | refine wa_imul (pc := 27) (y := mX6_keepLevels) dX6_keepLevels_27 ?_
          refine wa_iload_n (pc := 28) (y := mX6_keepLevels) dX6_keepLevels_28 rfl ?_
          first | with_reducible refine wa_iaddN (pc := 29) (y := mX6_keepLevels) dX6_keepLevels_29 ?_ | refine wa_iadd (pc := 29) (y := mX6_keepLevels) dX6_keepLevels_29 ?_
          first | refine wa_aload_n (pc := 30) (y := mX6_keepLevels) dX6_keepLevels_30 rfl ?_ | refine wa_aload_nN (pc := 30) (y := mX6_keepLevels) dX6_keepLevels_30 rfl ?_ | refine wa_aload_nq (pc := 30) (y := mX6_keepLevels) dX6_keepLevels_30 rfl ?_
          refine wa_iload_n (pc := 31) (y := mX6_keepLevels) dX6_keepLevels_31 rfl ?_
          refine wa_iload_n (pc := 32) (y := mX6_keepLevels) dX6_keepLevels_32 rfl ?_
          refine wa_callV (pc := 33) (s_X6_levelIn (d := d - 1) (by omega) hI (by omega) (by omega)) dX6_keepLevels_33 okX6_levelIn q2754 q2756 qs46 mH_o rfl rfl rfl (Nat.le_of_ble_eq_true rfl) (Nat.le_of_ble_eq_true rfl) (by omega) ?_
          rintro _ _ - - ⟨rfl, rfl⟩
          refine aft_v (pc2 := 36) ?_ rfl
          refine wa_iastoreN (pc := 36) (y := mX6_keepLevels) dX6_keepLevels_36 mH_5 (by omega) ?_
          rw [mW_5]
          rw [mA_A, mA_s, es]
          first | with_reducible refine wa_iincN (pc := 37) (y := mX6_keepLevels) dX6_keepLevels_37 rfl (Nat.le_of_ble_eq_true rfl) rfl ?_ | refine wa_iinc (pc := 37) (y := mX6_keepLevels) (1) dX6_keepLevels_37 rfl rfl (Nat.le_of_ble_eq_true rfl) rfl ?_
          simp only [List.set_cons_zero, List.set_cons_succ]
          refine wa_goto (pc := 40) (y := mX6_keepLevels) 14 dX6_keepLevels_40 rfl ?_
          exact ih2 (c + 1) (by omega)
      refine wa_iload_n (pc := 2) (y := mX6_keepLevels) dX6_keepLevels_2 rfl ?_
      first | refine wa_aload_n (pc := 3) (y := mX6_keepLevels) dX6_keepLevels_3 rfl ?_ | refine wa_aload_nN (pc := 3) (y := mX6_keepLevels) dX6_keepLevels_3 rfl ?_ | refine wa_aload_nq (pc := 3) (y := mX6_keepLevels) dX6_keepLevels_3 rfl ?_
      refine wa_getf (pc := 4) (y := mX6_keepLevels) (k := 5) 0 dX6_keepLevels_4 mH_o rfl q2643 (Or.inl rfl) (Nat.le_of_ble_eq_true rfl) (by rfl) ?_
      refine wa_iconst (pc := 7) (y := mX6_keepLevels) (Int32.ofNat 0) dX6_keepLevels_7 rfl ?_
      refine wa_ialoadU (pc := 8) (y := mX6_keepLevels) dX6_keepLevels_8 mH_1 (by omega) ?_
      refine wa_icmp_ge (pc := 9) 49 dX6_keepLevels_9 rfl (fun hb9 => absurd ((iN_le (by omega) (by omega)).mp hb9) (by omega)) (fun hb9 => ?_)
      refine wa_iconst (pc := 12) (y := mX6_keepLevels) (Int32.ofNat 0) dX6_keepLevels_12 rfl ?_
      refine wa_istore_n (pc := 13) (y := mX6_keepLevels) dX6_keepLevels_13 (Nat.le_of_ble_eq_true rfl) rfl ?_
      change WA _ _ _ _ (List.set _ 2 _) _ _ _
      simp only [List.set_cons_zero, List.set_cons_succ]
      exact inn 12 0 (by omega)
  show WA _ _ _ 0 [.ref m, .retAddr 0, .retAddr 0] [] _ _
  rw [show mH h m f σ = mH h m f (mA σ 8 (klF f (σ.1 8) (12 * 0))) from by rw [show klF f (σ.1 8) (12 * 0) = σ.1 8 from funext fun j => if_neg (by omega), mA_id]]
  refine wa_iconst (pc := 0) (y := mX6_keepLevels) (Int32.ofNat 0) dX6_keepLevels_0 rfl ?_
  refine wa_istore_n (pc := 1) (y := mX6_keepLevels) dX6_keepLevels_1 (Nat.le_of_ble_eq_true rfl) rfl ?_
  change WA _ _ _ _ (List.set _ 1 _) _ _ _
  simp only [List.set_cons_zero, List.set_cons_succ]
  exact key (u (f 0)) 0 _ (by omega)
end MKEEP
