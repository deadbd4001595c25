/-! ===== putMapEntries, putAll ===== -/
section PUTALL2
variable {G : GG} {d n : Nat} {h h1 h2 h3 : AH} {F F1 F2 F3 : Nat → Nat → Value} {m m2 k k2 kD it p q x vv : Nat} {nsS nsD ns pre suf : List Nat} {mc : Int32} {cur : Option Nat} {P : Nat → Prop}
theorem MapR.thr (M : MapR h F m []) (h0 : F m 0 = .null) {j : Nat} (hj : 1 ≤ j ∧ j ≤ 7) : MapR h (updF F m 4 (.int (Int32.ofNat (2 ^ j)))) m [] := by
  obtain ⟨m1, m2, m3, m5, m10, m11, mlo, mn, mN, minj, mv, mt⟩ := M
  have g : ∀ i, i ≠ 4 → updF F m 4 (.int (Int32.ofNat (2 ^ j))) m i = F m i := fun i hi => updF_i hi rfl
  have gv : ∀ v i k9, Is h v k9 2 → updF F m 4 (.int (Int32.ofNat (2 ^ j))) v i = F v i := fun v i k9 hv => updF_a (fun e => by have := (e ▸ hv).uniq m1; omega) rfl
  have V : ∀ i k9, i ≠ 4 → VwR h F m i k9 → VwR h (updF F m 4 (.int (Int32.ofNat (2 ^ j)))) m i k9 := fun i k9 hi hV => by
    rcases hV with e | ⟨v, e1, e2, e3, e4⟩
    · exact Or.inl ((g i hi).trans e)
    · exact Or.inr ⟨v, (g i hi).trans e1, e2, (gv v 0 k9 e2).trans e3, (gv v 1 k9 e2).trans e4⟩
  refine ⟨m1, (g 2 (by decide)).trans m2, ?_, (g 5 (by decide)).trans m5, (g 10 (by decide)).trans m10, (g 11 (by decide)).trans m11, ⟨(g 8 (by decide)).trans mlo.1, (g 9 (by decide)).trans mlo.2.1, mlo.2.2⟩, mn, fun p hp => (by cases hp), fun p q hp => (by cases hp), ⟨V 1 19 (by decide) mv.1, V 6 15 (by decide) mv.2.1, V 7 17 (by decide) mv.2.2⟩, Or.inl ⟨(g 0 (by decide)).trans h0, rfl, 2 ^ j, updF_self _ _ _ _, Or.inr ⟨j, hj.1, hj.2, rfl⟩⟩⟩
  obtain ⟨z, hz⟩ := m3
  exact ⟨z, (g 3 (by decide)).trans hz⟩
theorem dstore_c (s : Nat) : (Value.double (ceX s)).category = 2 := rfl
theorem s_J4_putMapEntries (hd : 12 ≤ d) (hG : StG G) (M : MapR h F m []) (f0 : F m 0 = .null) (f1 : F m 1 = .null) (f6 : F m 6 = .null) (f7 : F m 7 = .null) (f4 : F m 4 = .int 0) (M2 : MapR h F m2 nsS) (t2 : TK h F m2 k2) (hk2 : k2 ≤ 8) (hl : nsS.length ≤ 90) (hmm : ¬ MFp F m2 nsS m) :
    MA G d mJ4_putMapEntries [.ref m, .ref m2, .int (Int32.ofNat 1)] (sF h F) (PtaQ m m2 nsS k2 h F) := by
  have m1 := M.1
  have m21 := M2.1
  have f5 := M.2.2.2.1
  have hfp : ∀ b, MFp F m [] b → b = m := fun b hb => by
    rcases hb with e | e | e | e | e | e
    · exact e
    · cases e
    · rw [f0] at e; cases e
    · rw [f1] at e; cases e
    · rw [f6] at e; cases e
    · rw [f7] at e; cases e
  change WA G d mJ4_putMapEntries 0 [.ref m, .ref m2, .int (Int32.ofNat 1), .retAddr 0, .retAddr 0, .retAddr 0, .retAddr 0, .retAddr 0] [] _ _
  by_cases hs0 : nsS = []
  · subst hs0
    refine wa_aloadV_n (pc := 0) (y := mJ4_putMapEntries) dJ4_putMapEntries_0 rfl (by first | exact rf_s _ | exact rf_n | exact rf_q _) ?_
    refine wa_callF (k := 12) (pc := 1) (s_J4_size (d := d - 1) M2) dJ4_putMapEntries_1 okJ4_size rfl q1236 ⟨q1238, q1237, q1243, q1241, q1239⟩ (by decide) q1240 q1242 (sF_at (by assumption)) rfl rfl rfl rfl (Nat.le_of_ble_eq_true rfl) (Nat.le_of_ble_eq_true rfl) (by omega) ?_
    rintro _ _ - - ⟨rfl, rfl⟩
    refine aft_v (pc2 := 6) ?_ rfl
    refine wa_istore_n (pc := 6) (y := mJ4_putMapEntries) dJ4_putMapEntries_6 (Nat.le_of_ble_eq_true rfl) (by first | rfl | (simp [okst, rf_cat] <;> assumption)) ?_
    change WA _ _ _ _ (List.set _ 3 _) _ _ _
    simp only [List.set_cons_zero, List.set_cons_succ]
    refine wa_iload_n (pc := 7) (y := mJ4_putMapEntries) dJ4_putMapEntries_7 rfl ?_
    refine wa_if_le (pc := 8) 169 dJ4_putMapEntries_8 rfl (fun hb8 => ?_) (fun hb8 => absurd (Int32.le_refl _) hb8)
    refine wa_return (pc := 169) (y := mJ4_putMapEntries) dJ4_putMapEntries_169 rfl ⟨h, F, [], 0, rfl, rfl, M, Or.inl ⟨f0, rfl⟩, rfl, M2, t2, rfl, Fr.refl, by omega, fun b hb => Or.inl hb, fun b hb => Or.inl hb⟩
  · have hs1 : 1 ≤ nsS.length ∧ nsS.length < 97 := ⟨List.length_pos_iff.mpr hs0, by omega⟩
    have k110 : ∀ (v4 v5 v6 v7 : Value) (j : Nat), 1 ≤ j ∧ j ≤ 7 → v5.category = 1 → v6.category = 1 → v7.category = 1 → WA G d mJ4_putMapEntries 97 [.ref m, .ref m2, .int (Int32.ofNat 1), .int (Int32.ofNat nsS.length), v4, v5, v6, v7] [] (sF h (updF F m 4 (.int (Int32.ofNat (2 ^ j))))) (PtaQ m m2 nsS k2 h F) := by
      intro v4 v5 v6 v7 j hj h5 h6 h7
      have M' := M.thr f0 hj
      have fr0 : Fr (· = m) h F h (updF F m 4 (.int (Int32.ofNat (2 ^ j)))) := Fr.upd rfl
      obtain ⟨M2', es2', tk2', fp2', m2'⟩ := M2.fr fr0 (fun b hb e => hmm (e ▸ hb)) (fun q hq e => (e ▸ hq).ne m1 (by decide) rfl)
      have hmf : ∀ b, MFp (updF F m 4 (.int (Int32.ofNat (2 ^ j)))) m [] b ↔ MFp F m [] b := fun b => by
        unfold MFp
        rw [updF_i (w := F m 0) (by decide) rfl, updF_i (w := F m 1) (by decide) rfl, updF_i (w := F m 6) (by decide) rfl, updF_i (w := F m 7) (by decide) rfl]
      have f0' : updF F m 4 (.int (Int32.ofNat (2 ^ j))) m 0 = .null := updF_i (by decide) f0
      generalize updF F m 4 (.int (Int32.ofNat (2 ^ j))) = F0 at *
      refine wa_aloadV_n (pc := 97) (y := mJ4_putMapEntries) dJ4_putMapEntries_97 rfl (by first | exact rf_s _ | exact rf_n | exact rf_q _) ?_
      refine wa_callF (k := 12) (pc := 98) (s_J5_entrySet (d := d - 1) (by omega) M2' (tk2' _ t2)) dJ4_putMapEntries_98 okJ5_entrySet rfl q1376 ⟨q1378, q1377, q1382, q1380, q1239⟩ (by decide) q1379 q1381 (sF_at (by assumption)) rfl rfl rfl rfl (Nat.le_of_ble_eq_true rfl) (Nat.le_of_ble_eq_true rfl) (by omega) ?_
      rintro _ _ - - ⟨h1, F1, v1, rfl, rfl, M21, t21, es1, st1, ⟨iv, v10, v11, v12⟩, hmj⟩
      refine aft_v (pc2 := 103) ?_ rfl
      obtain ⟨mc, hmc⟩ := M21.2.2.1
      obtain ⟨M1, es1m, tk1, fp1, m1j⟩ := M'.fr st1.1 (fun b hb hb2 => by have := hfp b ((hmf b).mp hb); subst this; exact hmm ((fp2' _).mp hb2)) (fun q hq hb2 => MFp.no M2' hq (by decide) hb2)
      refine wa_callF (k := 19) (pc := 103) (s_J28_iterator (d := d - 1) (by omega) iv v10 v11 M21 hmc) dJ4_putMapEntries_103 okJ28_iterator rfl q1406 ⟨q1408, q1407, q1413, q1411, q1409⟩ (by decide) q1410 q1412 (sF_at (by assumption)) rfl rfl rfl rfl (Nat.le_of_ble_eq_true rfl) (Nat.le_of_ble_eq_true rfl) (by omega) ?_
      rintro _ _ - - ⟨F2, rfl, rfl, I2, hF2⟩
      refine aft_v (pc2 := 108) ?_ rfl
      have fr2 : Fr (fun _ => False) h1 F1 (hNew h1 20 5) F2 := ⟨Ext.new, fun b hb _ => hF2 b hb⟩
      obtain ⟨M22, es22, tk22, fp22, m22⟩ := M21.fr fr2 (fun _ _ q => q) (fun _ _ q => q)
      obtain ⟨M12, es12, tk12, fp12, m12⟩ := M1.fr fr2 (fun _ _ q => q) (fun _ _ q => q)
      refine wa_astoreV (pc := 108) (y := mJ4_putMapEntries) dJ4_putMapEntries_108 (Nat.le_of_ble_eq_true rfl) (by first | rfl | (simp [okst, rf_cat] <;> assumption)) (by first | exact rf_s _ | exact rf_n | exact rf_q _) ?_
      simp only [List.set_cons_zero, List.set_cons_succ]
      have hh1 := st1.1.1.1
      have hc1 := st1.2.2.1
      refine pm_110 (h := h) (F := F) (n0 := h.1) hd hG rfl hl m1 trivial nsS [] (hNew h1 20 5) F2 [] 0 none mc _ _ _ rfl h5 h6 h7 M12 (tk12 _ (tk1 _ (Or.inl ⟨f0', rfl⟩))) (Nat.zero_le _) rfl M22 (tk22 _ t21) (es22.trans (es1.trans es2')) (by rw [m22]; exact hmc) I2 hh1 (Nat.lt_succ_self _) rfl ?_ ?_ ?_ ?_ ?_ ?_ ?_
      · exact ((fr0.mono (fun b _ e => Or.inl (Or.inl e))).trans st1.1 (fun b _ hb => Or.inr ((fp2' b).mp hb))).trans fr2 (fun _ _ q => q.elim)
      · exact ⟨by show h1.1 + 1 ≤ _; simp only [List.length_nil]; omega, by show h1.2.1 + 5 ≤ _; simp only [List.length_nil]; omega⟩
      · exact fun b hb => Or.inl ((hmf b).mp ((fp1 b).mp ((fp12 b).mp hb)))
      · exact fun b hb => by have hb1 := (fp22 b).mp hb; exact (st1.2.2.2 b hb1).elim (fun q => Or.inl ((fp2' b).mp q)) (fun q => Or.inr (by have := MFp.lt M21 hb1; omega))
      · exact fun b hb hb2 => by have := hfp b hb; subst this; exact hmm hb2
      · exact fun b hb => MFp.lt M hb
      · exact fun b hb => MFp.lt M2 hb
    refine wa_aloadV_n (pc := 0) (y := mJ4_putMapEntries) dJ4_putMapEntries_0 rfl (by first | exact rf_s _ | exact rf_n | exact rf_q _) ?_
    refine wa_callF (k := 12) (pc := 1) (s_J4_size (d := d - 1) M2) dJ4_putMapEntries_1 okJ4_size rfl q1236 ⟨q1238, q1237, q1243, q1241, q1239⟩ (by decide) q1240 q1242 (sF_at (by assumption)) rfl rfl rfl rfl (Nat.le_of_ble_eq_true rfl) (Nat.le_of_ble_eq_true rfl) (by omega) ?_
    rintro _ _ - - ⟨rfl, rfl⟩
    refine aft_v (pc2 := 6) ?_ rfl
    refine wa_istore_n (pc := 6) (y := mJ4_putMapEntries) dJ4_putMapEntries_6 (Nat.le_of_ble_eq_true rfl) (by first | rfl | (simp [okst, rf_cat] <;> assumption)) ?_
    change WA _ _ _ _ (List.set _ 3 _) _ _ _
    simp only [List.set_cons_zero, List.set_cons_succ]
    refine wa_iload_n (pc := 7) (y := mJ4_putMapEntries) dJ4_putMapEntries_7 rfl ?_
    refine wa_if_le (pc := 8) 169 dJ4_putMapEntries_8 rfl (fun hb8 => absurd ((iN_pos (by omega)).mp hb8) (by omega)) (fun hb8 => ?_)
    refine wa_aloadV_n (pc := 11) (y := mJ4_putMapEntries) dJ4_putMapEntries_11 rfl (by first | exact rf_s _ | exact rf_n | exact rf_q _) ?_
    refine wf_get (k := 12) (l := 12) 0 dJ4_putMapEntries_12 (by assumption) rfl q207 (Or.inl rfl) (Nat.le_of_ble_eq_true rfl) (Nat.le_of_ble_eq_true rfl) (by (repeat (first | exact updF_self _ _ _ _ | (apply updF_i; · decide) | (apply updF_a; · first | assumption | (apply Ne.symm; assumption) | omega) | (apply newF_a; · first | assumption | (apply Ne.symm; assumption) | omega) | exact newL_self (by rfl) | exact newF_self (by rfl) | (apply cpyF_a; · first | assumption | (apply Ne.symm; assumption) | omega))) <;> first | assumption | rfl) ?_
    refine wa_ifnonnullN (pc := 15) (y := mJ4_putMapEntries) dJ4_putMapEntries_15 ?_
    refine wa_iload_n (pc := 18) (y := mJ4_putMapEntries) dJ4_putMapEntries_18 rfl ?_
    refine wa_i2d (pc := 19) (y := mJ4_putMapEntries) dJ4_putMapEntries_19 ?_
    refine wa_aloadV_n (pc := 20) (y := mJ4_putMapEntries) dJ4_putMapEntries_20 rfl (by first | exact rf_s _ | exact rf_n | exact rf_q _) ?_
    refine wf_get (k := 12) (l := 12) 5 dJ4_putMapEntries_21 (by assumption) rfl q216 (Or.inl rfl) (Nat.le_of_ble_eq_true rfl) (Nat.le_of_ble_eq_true rfl) (by (repeat (first | exact updF_self _ _ _ _ | (apply updF_i; · decide) | (apply updF_a; · first | assumption | (apply Ne.symm; assumption) | omega) | (apply newF_a; · first | assumption | (apply Ne.symm; assumption) | omega) | exact newL_self (by rfl) | exact newF_self (by rfl) | (apply cpyF_a; · first | assumption | (apply Ne.symm; assumption) | omega))) <;> first | assumption | rfl) ?_
    refine wa_f2d (pc := 24) (y := mJ4_putMapEntries) dJ4_putMapEntries_24 cx_7 ?_
    refine wa_ddiv (pc := 25) (y := mJ4_putMapEntries) dJ4_putMapEntries_25 (cx_6 nsS.length hs1.2 hs1.1) ?_
    refine wa_mceil (pc := 26) (y := mJ4_putMapEntries) hG hs1 dJ4_putMapEntries_26 q1245 (Nat.le_of_ble_eq_true rfl) (by omega) ?_
    refine wa_dstore (pc := 29) (y := mJ4_putMapEntries) dJ4_putMapEntries_29 (Nat.le_of_ble_eq_true rfl) (by first | rfl | (simp [okst, rf_cat] <;> assumption)) ?_
    simp only [List.set_cons_zero, List.set_cons_succ]
    refine wa_dload (pc := 31) (y := mJ4_putMapEntries) dJ4_putMapEntries_31 rfl ?_
    refine wa_ldc2d (pc := 33) (y := mJ4_putMapEntries) dJ4_putMapEntries_33 q1271 ?_
    refine wa_dcmp (pc := 36) (y := mJ4_putMapEntries) dJ4_putMapEntries_36 ?_
    refine wa_if_ge (pc := 37) 46 dJ4_putMapEntries_37 rfl (fun hb37 => absurd (cx_4 nsS.length hs1.2 hs1.1) (Int32.not_lt.mpr hb37)) (fun hb37 => ?_)
    refine wa_dload (pc := 40) (y := mJ4_putMapEntries) dJ4_putMapEntries_40 rfl ?_
    refine wa_d2i (pc := 42) (y := mJ4_putMapEntries) dJ4_putMapEntries_42 ?_
    rw [cx_5 nsS.length hs1.2 hs1.1]
    refine wa_goto (pc := 43) (y := mJ4_putMapEntries) 48 dJ4_putMapEntries_43 rfl ?_
    refine wa_istore (pc := 48) (y := mJ4_putMapEntries) dJ4_putMapEntries_48 (Nat.le_of_ble_eq_true rfl) (by first | rfl | (simp [okst, rf_cat] <;> assumption)) ?_
    simp only [List.set_cons_zero, List.set_cons_succ]
    refine wa_iload (pc := 50) (y := mJ4_putMapEntries) dJ4_putMapEntries_50 rfl ?_
    refine wa_aloadV_n (pc := 52) (y := mJ4_putMapEntries) dJ4_putMapEntries_52 rfl (by first | exact rf_s _ | exact rf_n | exact rf_q _) ?_
    refine wf_get (k := 12) (l := 12) 4 dJ4_putMapEntries_53 (by assumption) rfl q215 (Or.inl rfl) (Nat.le_of_ble_eq_true rfl) (Nat.le_of_ble_eq_true rfl) (by (repeat (first | exact updF_self _ _ _ _ | (apply updF_i; · decide) | (apply updF_a; · first | assumption | (apply Ne.symm; assumption) | omega) | (apply newF_a; · first | assumption | (apply Ne.symm; assumption) | omega) | exact newL_self (by rfl) | exact newF_self (by rfl) | (apply cpyF_a; · first | assumption | (apply Ne.symm; assumption) | omega))) <;> first | assumption | rfl) ?_
    refine wa_icmp_le (pc := 56) 68 dJ4_putMapEntries_56 rfl (fun hb56 => absurd ((iN_pos (by omega)).mp hb56) (by omega)) (fun hb56 => ?_)
    refine wa_aloadV_n (pc := 59) (y := mJ4_putMapEntries) dJ4_putMapEntries_59 rfl (by first | exact rf_s _ | exact rf_n | exact rf_q _) ?_
    refine wa_iload (pc := 60) (y := mJ4_putMapEntries) dJ4_putMapEntries_60 rfl ?_
    refine wa_callS (pc := 62) (s_J4_tableSizeFor (d := d - 1) (x := (4 * nsS.length + 2) / 3) (by omega) (by omega)) dJ4_putMapEntries_62 okJ4_tableSizeFor q1273 q1274 rfl rfl (Nat.le_of_ble_eq_true rfl) (Nat.le_of_ble_eq_true rfl) (by omega) ?_
    rintro _ _ - - ⟨j, j1, j2, rfl, rfl⟩
    refine aft_v (pc2 := 65) ?_ rfl
    refine wf_put (k := 12) (l := 12) 4 .int dJ4_putMapEntries_65 (by assumption) rfl q215 (Or.inl rfl) (Nat.le_of_ble_eq_true rfl) rfl (by decide +kernel) rfl rfl ?_
    refine wa_goto (pc := 68) (y := mJ4_putMapEntries) 97 dJ4_putMapEntries_68 rfl ?_
    exact k110 _ _ _ _ j ⟨j1, j2⟩ rfl rfl rfl
theorem s_J4_putAll (hd : 13 ≤ d) (hG : StG G) (M : MapR h F m []) (f0 : F m 0 = .null) (f1 : F m 1 = .null) (f6 : F m 6 = .null) (f7 : F m 7 = .null) (f4 : F m 4 = .int 0) (M2 : MapR h F m2 nsS) (t2 : TK h F m2 k2) (hk2 : k2 ≤ 8) (hl : nsS.length ≤ 90) (hmm : ¬ MFp F m2 nsS m) :
    MA G d mJ4_putAll [.ref m, .ref m2] (sF h F) (PtaQ m m2 nsS k2 h F) := by
  have m1 := M.1
  have m21 := M2.1
  change WA G d mJ4_putAll 0 [.ref m, .ref m2] [] _ _
  refine wa_aloadV_n (pc := 0) (y := mJ4_putAll) dJ4_putAll_0 rfl (by first | exact rf_s _ | exact rf_n | exact rf_q _) ?_
  refine wa_aloadV_n (pc := 1) (y := mJ4_putAll) dJ4_putAll_1 rfl (by first | exact rf_s _ | exact rf_n | exact rf_q _) ?_
  refine wa_iconst (pc := 2) (y := mJ4_putAll) (Int32.ofNat 1) dJ4_putAll_2 rfl ?_
  refine wa_callW (k := 12) (pc := 3) (owner := "java/util/HashMap") (s_J4_putMapEntries (d := d - 1) (by omega) hG M f0 f1 f6 f7 f4 M2 t2 hk2 hl hmm) dJ4_putAll_3 okJ4_putMapEntries rfl q1230 q1232 (hDc_code q1231 q1234) (by decide) q1233 q1231 (sF_at (by assumption)) rfl rfl rfl rfl (Nat.le_of_ble_eq_true rfl) (Nat.le_of_ble_eq_true rfl) (by omega) ?_
  rintro _ _ - - ⟨h2, F2, nsD, kD, rfl, rfl, q⟩
  refine aft_0 (pc2 := 6) ?_ rfl
  refine wa_return (pc := 6) (y := mJ4_putAll) dJ4_putAll_6 rfl ⟨h2, F2, nsD, kD, rfl, rfl, q⟩
end PUTALL2
