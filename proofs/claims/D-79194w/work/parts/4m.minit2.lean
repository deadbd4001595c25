/-! ===== CueStackModel's constructor, the walk ===== -/
theorem arI_repI (n : Nat) : List.replicate n (defaultValue (newarray.typeOf .int)) = arI n (fun _ => 0) := arI_rep n
theorem arI_repC (n : Nat) : List.replicate n (defaultValue (newarray.typeOf .char)) = arI n (fun _ => 0) := arI_rep n
theorem bH_a1 (h : AH) (cs : List AC) (n : Nat) : (bH h cs n).1 = h.1 + cs.length := rfl
theorem mV_id (σ : MS) (i : Nat) : mV σ i (σ.2 i) = σ := by
  unfold mV
  obtain ⟨a, b⟩ := σ
  congr 1
  funext k
  by_cases e : k = i <;> simp [e]
section MINIT
variable {G : GG} {d : Nat} {h : AH} {n : Nat}
theorem s_X6_init (hd : 2 ≤ d) : MA G d mX6_init [.ref h.1] (bH h [(5, mDef)] n) (fun r h' => r = .inl none ∧ h' = mH (h.1 + 9, h.2.1 + (n + 462 + 462 + 462 + 2772 + 144 + 60 + 60 + 180), h.2.2) h.1 (fun _ => 0) mS0) := by
  show WA _ _ _ 0 [.ref _] [] _ _
  unfold mDef
  first | refine wa_aload_n (pc := 0) (y := mX6_init) dX6_init_0 rfl ?_ | refine wa_aload_nN (pc := 0) (y := mX6_init) dX6_init_0 rfl ?_ | refine wa_aload_nq (pc := 0) (y := mX6_init) dX6_init_0 rfl ?_
  refine wa_objInit (pc := 1) (y := mX6_init) dX6_init_1 q2638 q151 q152 (Nat.le_of_ble_eq_true rfl) (by omega) ?_
  first | refine wa_aload_n (pc := 4) (y := mX6_init) dX6_init_4 rfl ?_ | refine wa_aload_nN (pc := 4) (y := mX6_init) dX6_init_4 rfl ?_ | refine wa_aload_nq (pc := 4) (y := mX6_init) dX6_init_4 rfl ?_
  refine wa_sipush (pc := 5) (y := mX6_init) (Int32.ofNat 462) dX6_init_5 rfl ?_
  refine wa_newarray (pc := 8) (y := mX6_init) 462 32 dX6_init_8 (iN_toInt (by omega)) (by decide) (Or.inl ⟨rfl, rfl⟩) q271 ?_
  rw [bH_new, arI_repI, bH_a1]
  simp only [List.cons_append, List.nil_append, List.length_cons, List.length_nil, Nat.reduceAdd]
  refine wa_putfF (pc := 10) (y := mX6_init) (k := 5) 0 (.array .int) dX6_init_10 (bH_0 _ _ _ _) rfl q2643 (Or.inl rfl) (Nat.le_of_ble_eq_true rfl) rfl rfl rfl (by decide +kernel) rfl rfl ?_
  rw [bH_u0]
  simp only [List.set_cons_zero, List.set_cons_succ]
  first | refine wa_aload_n (pc := 13) (y := mX6_init) dX6_init_13 rfl ?_ | refine wa_aload_nN (pc := 13) (y := mX6_init) dX6_init_13 rfl ?_ | refine wa_aload_nq (pc := 13) (y := mX6_init) dX6_init_13 rfl ?_
  refine wa_sipush (pc := 14) (y := mX6_init) (Int32.ofNat 462) dX6_init_14 rfl ?_
  refine wa_newarray (pc := 17) (y := mX6_init) 462 32 dX6_init_17 (iN_toInt (by omega)) (by decide) (Or.inl ⟨rfl, rfl⟩) q271 ?_
  rw [bH_new, arI_repI, bH_a1]
  simp only [List.cons_append, List.nil_append, List.length_cons, List.length_nil, Nat.reduceAdd]
  refine wa_putfF (pc := 19) (y := mX6_init) (k := 5) 1 (.array .int) dX6_init_19 (bH_0 _ _ _ _) rfl q2644 (Or.inl rfl) (Nat.le_of_ble_eq_true rfl) rfl rfl rfl (by decide +kernel) rfl rfl ?_
  rw [bH_u0]
  simp only [List.set_cons_zero, List.set_cons_succ]
  first | refine wa_aload_n (pc := 22) (y := mX6_init) dX6_init_22 rfl ?_ | refine wa_aload_nN (pc := 22) (y := mX6_init) dX6_init_22 rfl ?_ | refine wa_aload_nq (pc := 22) (y := mX6_init) dX6_init_22 rfl ?_
  refine wa_sipush (pc := 23) (y := mX6_init) (Int32.ofNat 462) dX6_init_23 rfl ?_
  refine wa_newarray (pc := 26) (y := mX6_init) 462 32 dX6_init_26 (iN_toInt (by omega)) (by decide) (Or.inl ⟨rfl, rfl⟩) q271 ?_
  rw [bH_new, arI_repI, bH_a1]
  simp only [List.cons_append, List.nil_append, List.length_cons, List.length_nil, Nat.reduceAdd]
  refine wa_putfF (pc := 28) (y := mX6_init) (k := 5) 2 (.array .int) dX6_init_28 (bH_0 _ _ _ _) rfl q2645 (Or.inl rfl) (Nat.le_of_ble_eq_true rfl) rfl rfl rfl (by decide +kernel) rfl rfl ?_
  rw [bH_u0]
  simp only [List.set_cons_zero, List.set_cons_succ]
  first | refine wa_aload_n (pc := 31) (y := mX6_init) dX6_init_31 rfl ?_ | refine wa_aload_nN (pc := 31) (y := mX6_init) dX6_init_31 rfl ?_ | refine wa_aload_nq (pc := 31) (y := mX6_init) dX6_init_31 rfl ?_
  refine wa_sipush (pc := 32) (y := mX6_init) (Int32.ofNat 2772) dX6_init_32 rfl ?_
  refine wa_newarray (pc := 35) (y := mX6_init) 2772 32 dX6_init_35 (iN_toInt (by omega)) (by decide) (Or.inl ⟨rfl, rfl⟩) q271 ?_
  rw [bH_new, arI_repI, bH_a1]
  simp only [List.cons_append, List.nil_append, List.length_cons, List.length_nil, Nat.reduceAdd]
  refine wa_putfF (pc := 37) (y := mX6_init) (k := 5) 4 (.array .int) dX6_init_37 (bH_0 _ _ _ _) rfl q2647 (Or.inl rfl) (Nat.le_of_ble_eq_true rfl) rfl rfl rfl (by decide +kernel) rfl rfl ?_
  rw [bH_u0]
  simp only [List.set_cons_zero, List.set_cons_succ]
  first | refine wa_aload_n (pc := 40) (y := mX6_init) dX6_init_40 rfl ?_ | refine wa_aload_nN (pc := 40) (y := mX6_init) dX6_init_40 rfl ?_ | refine wa_aload_nq (pc := 40) (y := mX6_init) dX6_init_40 rfl ?_
  refine wa_sipush (pc := 41) (y := mX6_init) (Int32.ofNat 144) dX6_init_41 rfl ?_
  refine wa_newarray (pc := 44) (y := mX6_init) 144 32 dX6_init_44 (iN_toInt (by omega)) (by decide) (Or.inl ⟨rfl, rfl⟩) q271 ?_
  rw [bH_new, arI_repI, bH_a1]
  simp only [List.cons_append, List.nil_append, List.length_cons, List.length_nil, Nat.reduceAdd]
  refine wa_putfF (pc := 46) (y := mX6_init) (k := 5) 8 (.array .int) dX6_init_46 (bH_0 _ _ _ _) rfl q2651 (Or.inl rfl) (Nat.le_of_ble_eq_true rfl) rfl rfl rfl (by decide +kernel) rfl rfl ?_
  rw [bH_u0]
  simp only [List.set_cons_zero, List.set_cons_succ]
  first | refine wa_aload_n (pc := 49) (y := mX6_init) dX6_init_49 rfl ?_ | refine wa_aload_nN (pc := 49) (y := mX6_init) dX6_init_49 rfl ?_ | refine wa_aload_nq (pc := 49) (y := mX6_init) dX6_init_49 rfl ?_
  refine wa_bipush (pc := 50) (y := mX6_init) (Int32.ofNat 60) dX6_init_50 rfl ?_
  refine wa_newarray (pc := 52) (y := mX6_init) 60 34 dX6_init_52 (iN_toInt (by omega)) (by decide) (Or.inr (Or.inr ⟨rfl, rfl⟩)) q1139 ?_
  rw [bH_new, arI_repC, bH_a1]
  simp only [List.cons_append, List.nil_append, List.length_cons, List.length_nil, Nat.reduceAdd]
  refine wa_putfF (pc := 54) (y := mX6_init) (k := 5) 9 (.array .char) dX6_init_54 (bH_0 _ _ _ _) rfl q2652 (Or.inl rfl) (Nat.le_of_ble_eq_true rfl) rfl rfl rfl (by decide +kernel) rfl rfl ?_
  rw [bH_u0]
  simp only [List.set_cons_zero, List.set_cons_succ]
  first | refine wa_aload_n (pc := 57) (y := mX6_init) dX6_init_57 rfl ?_ | refine wa_aload_nN (pc := 57) (y := mX6_init) dX6_init_57 rfl ?_ | refine wa_aload_nq (pc := 57) (y := mX6_init) dX6_init_57 rfl ?_
  refine wa_iconst (pc := 58) (y := mX6_init) (-1) dX6_init_58 rfl ?_
  refine wa_putf (pc := 59) (y := mX6_init) (k := 5) 13 .int dX6_init_59 (bH_0 _ _ _ _) rfl q2656 (Or.inl rfl) (Nat.le_of_ble_eq_true rfl) rfl (by decide +kernel) rfl rfl ?_
  rw [bH_u0]
  simp only [List.set_cons_zero, List.set_cons_succ]
  first | refine wa_aload_n (pc := 62) (y := mX6_init) dX6_init_62 rfl ?_ | refine wa_aload_nN (pc := 62) (y := mX6_init) dX6_init_62 rfl ?_ | refine wa_aload_nq (pc := 62) (y := mX6_init) dX6_init_62 rfl ?_
  refine wa_bipush (pc := 63) (y := mX6_init) (Int32.ofNat 60) dX6_init_63 rfl ?_
  refine wa_newarray (pc := 65) (y := mX6_init) 60 34 dX6_init_65 (iN_toInt (by omega)) (by decide) (Or.inr (Or.inr ⟨rfl, rfl⟩)) q1139 ?_
  rw [bH_new, arI_repC, bH_a1]
  simp only [List.cons_append, List.nil_append, List.length_cons, List.length_nil, Nat.reduceAdd]
  refine wa_putfF (pc := 67) (y := mX6_init) (k := 5) 14 (.array .char) dX6_init_67 (bH_0 _ _ _ _) rfl q2657 (Or.inl rfl) (Nat.le_of_ble_eq_true rfl) rfl rfl rfl (by decide +kernel) rfl rfl ?_
  rw [bH_u0]
  simp only [List.set_cons_zero, List.set_cons_succ]
  first | refine wa_aload_n (pc := 70) (y := mX6_init) dX6_init_70 rfl ?_ | refine wa_aload_nN (pc := 70) (y := mX6_init) dX6_init_70 rfl ?_ | refine wa_aload_nq (pc := 70) (y := mX6_init) dX6_init_70 rfl ?_
  refine wa_sipush (pc := 71) (y := mX6_init) (Int32.ofNat 180) dX6_init_71 rfl ?_
  refine wa_newarray (pc := 74) (y := mX6_init) 180 32 dX6_init_74 (iN_toInt (by omega)) (by decide) (Or.inl ⟨rfl, rfl⟩) q271 ?_
  rw [bH_new, arI_repI, bH_a1]
  simp only [List.cons_append, List.nil_append, List.length_cons, List.length_nil, Nat.reduceAdd]
  refine wa_putfF (pc := 76) (y := mX6_init) (k := 5) 15 (.array .int) dX6_init_76 (bH_0 _ _ _ _) rfl q2658 (Or.inl rfl) (Nat.le_of_ble_eq_true rfl) rfl rfl rfl (by decide +kernel) rfl rfl ?_
  rw [bH_u0]
  simp only [List.set_cons_zero, List.set_cons_succ]
  change WA _ _ _ _ _ _ (bH h ((5, mF h.1 mS0) :: _) _) _
  rw [bH_m]
  first | refine wa_aload_n (pc := 79) (y := mX6_init) dX6_init_79 rfl ?_ | refine wa_aload_nN (pc := 79) (y := mX6_init) dX6_init_79 rfl ?_ | refine wa_aload_nq (pc := 79) (y := mX6_init) dX6_init_79 rfl ?_
  refine wa_callV (pc := 80) (s_X6_begin (d := d - 1) (by omega)) dX6_init_80 okX6_begin q2639 q2641 qs38 mH_o rfl rfl rfl (Nat.le_of_ble_eq_true rfl) (Nat.le_of_ble_eq_true rfl) (by omega) ?_
  rintro _ _ - - ⟨rfl, rfl⟩
  refine aft_0 (pc2 := 83) ?_ rfl
  exact wa_return (pc := 83) (y := mX6_init) dX6_init_83 rfl ⟨rfl, by rw [show mV mS0 5 (Int32.ofNat 0) = mS0 from mV_id mS0 5]⟩
end MINIT
