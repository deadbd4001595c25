/-! ===== resize: the first table ===== -/
section RZ4
variable {G : GG} {d n : Nat} {h h2 : AH} {F F2 : Nat → Nat → Value} {m k t : Nat}
/-- a map without a table -/
def Map0 (h : AH) (F : Nat → Nat → Value) (m t : Nat) : Prop := Is h m 12 12 ∧ F m 5 = .float 1061158912 ∧ F m 10 = .int 0 ∧ F m 11 = .int 0 ∧ LO F m [] ∧ (VwR h F m 1 19 ∧ VwR h F m 6 15 ∧ VwR h F m 7 17) ∧ F m 0 = .null ∧ F m 4 = .int (Int32.ofNat t)
theorem rz0_125 {v2 v3 v6 v7 v8 v9 v10 v11 v12 v13 : Value} (M : Map0 h F m t) (hk : 1 ≤ k ∧ k ≤ 8) :
    WA G d mJ4_resize 125 [.ref m, .null, v2, v3, .int (Int32.ofNat (2 ^ k)), .int (Int32.ofNat (thr k)), v6, v7, v8, v9, v10, v11, v12, v13] [] (sF h F) (RzQ h F m [] k) := by
  obtain ⟨hm, m5, m10, m11, mlo, mv, m0, m4⟩ := M
  have hk2 : 2 ^ k < 2 ^ 9 := Nat.pow_lt_pow_right (by decide) (by omega)
  have hml := hm.lt
  have hmn : m ≠ h.1 := by omega
  obtain ⟨Fb, hFb⟩ : ∃ Fb, Fb = updF (newF (updF F m 4 (.int (Int32.ofNat (thr k)))) h.1 (fun _ => .null)) m 0 (.ref h.1) := ⟨_, rfl⟩
  have fo : ∀ b i, b < h.1 → b ≠ m → Fb b i = F b i := fun b i hb hbm => by rw [hFb]; exact (updF_a hbm rfl).trans ((newF_a (by omega) rfl).trans (updF_a hbm rfl))
  have fm : ∀ i, i ≠ 0 → i ≠ 4 → Fb m i = F m i := fun i h0 h4 => by rw [hFb]; exact (updF_i h0 rfl).trans ((newF_a hmn rfl).trans (updF_i h4 rfl))
  have fm4 : Fb m 4 = .int (Int32.ofNat (thr k)) := by rw [hFb]; exact (updF_i (by decide) rfl).trans ((newF_a hmn rfl).trans (updF_self _ _ _ _))
  have fm0 : Fb m 0 = .ref h.1 := by rw [hFb]; exact updF_self _ _ _ _
  have fnt : ∀ i, Fb h.1 i = .null := fun i => by rw [hFb]; exact (updF_a (Ne.symm hmn) rfl).trans (newF_self rfl)
  have hbig : 2 ^ k * 4 ≤ 536870912 := by omega
  have gv : ∀ i k9, VwR h F m i k9 → k9 = 19 ∨ k9 = 15 ∨ k9 = 17 → i = 1 ∨ i = 6 ∨ i = 7 → VwR (hNew h 36 (2 ^ k)) Fb m i k9 := fun i k9 V hk9 hi => V.ext Ext.new (fm i (by omega) (by omega)) fun v9 j hv9 => by
    rcases V with V | ⟨v8, q1, q2, -⟩
    · rw [V] at hv9; cases hv9
    · rw [q1] at hv9; cases hv9
      exact fo v9 j q2.lt (q2.ne hm (by omega))
  refine wa_aloadV_n (pc := 125) (y := mJ4_resize) dJ4_resize_125 rfl (by first | exact rf_s _ | exact rf_n | exact rf_q _) ?_
  refine wa_iload (pc := 126) (y := mJ4_resize) dJ4_resize_126 rfl ?_
  refine wf_put (k := 12) (l := 12) 4 .int dJ4_resize_128 (by assumption) rfl q215 (Or.inl rfl) (Nat.le_of_ble_eq_true rfl) rfl (by decide +kernel) rfl rfl ?_
  refine wa_iload (pc := 131) (y := mJ4_resize) dJ4_resize_131 rfl ?_
  refine wf_anewarray 36 dJ4_resize_133 (by omega) (Or.inr ⟨rfl, rfl⟩) q1284 q1285 ?_
  have hm2 : Is (hNew h 36 (2 ^ k)) m 12 12 := hm.new
  refine wa_astoreV (pc := 136) (y := mJ4_resize) dJ4_resize_136 (Nat.le_of_ble_eq_true rfl) (by first | rfl | (simp [okst, rf_cat] <;> assumption)) (by first | exact rf_s _ | exact rf_n | exact rf_q _) ?_
  simp only [List.set_cons_zero, List.set_cons_succ]
  refine wa_aloadV_n (pc := 138) (y := mJ4_resize) dJ4_resize_138 rfl (by first | exact rf_s _ | exact rf_n | exact rf_q _) ?_
  refine wa_aloadV (pc := 139) (y := mJ4_resize) dJ4_resize_139 rfl (by first | exact rf_s _ | exact rf_n | exact rf_q _) ?_
  refine wf_put (k := 12) (l := 12) 0 (.array (.object "java/util/HashMap$Node")) dJ4_resize_141 (by assumption) rfl q207 (Or.inl rfl) (Nat.le_of_ble_eq_true rfl) rfl (by decide +kernel) (by first | rfl | exact rf_nar _ | exact rf_nar2 _) (by first | rfl | exact rf_fit _ | exact rf_fit2 _) ?_
  refine wa_aloadV_n (pc := 144) (y := mJ4_resize) dJ4_resize_144 rfl (by first | exact rf_s _ | exact rf_n | exact rf_q _) ?_
  refine wa_ifnullN (pc := 145) (y := mJ4_resize) 353 dJ4_resize_145 rfl ?_
  refine wa_aloadV (pc := 353) (y := mJ4_resize) dJ4_resize_353 rfl (by first | exact rf_s _ | exact rf_n | exact rf_q _) ?_
  refine wa_areturnV (pc := 355) (y := mJ4_resize) (.array (.object "java/util/HashMap$Node")) dJ4_resize_355 rfl (Or.inr ⟨_, rfl⟩) (by first | exact rf_s _ | exact rf_n | exact rf_q _) ?_
  refine ⟨_, Fb, h.1, [], fun _ => [], rfl, by rw [← hFb], Nat.le_refl _, ⟨hm.new, (fm 5 (by decide) (by decide)).trans m5, (fm 10 (by decide) (by decide)).trans m10, (fm 11 (by decide) (by decide)).trans m11, mlo.congr (fm 8 (by decide) (by decide)) (fm 9 (by decide) (by decide)) (fun z hz => by cases hz) (fun z hz => by cases hz), (by simp), fun z hz => (by cases hz), fun z q hz => (by cases hz), ⟨gv 1 19 mv.1 (by decide) (by decide), gv 6 15 mv.2.1 (by decide) (by decide), gv 7 17 mv.2.2 (by decide) (by decide)⟩, fm0, ⟨Is.self, fun b hb => ⟨fnt b, Or.inl ⟨fun p hp => (by cases hp), trivial⟩, (by simp), fun p => by simp⟩⟩, hk, fm4⟩, rfl, ⟨Ext.new, fun b hb hP => ?_⟩, by rw [hNew_1, hNew_2]; simp, fun z hz => (by cases hz), fun i hi => fm i (by omega) (by omega)⟩
  funext i
  exact fo b i hb fun e => hP (Or.inl e)
theorem rz0_0 (M : Map0 h F m 0) : MA G d mJ4_resize [.ref m] (sF h F) (RzQ h F m [] 4) := by
  have M9 := M
  obtain ⟨hm, m5, m10, m11, mlo, mv, m0, m4⟩ := M
  change WA G d mJ4_resize 0 [.ref m, .retAddr 0, .retAddr 0, .retAddr 0, .retAddr 0, .retAddr 0, .retAddr 0, .retAddr 0, .retAddr 0, .retAddr 0, .retAddr 0, .retAddr 0, .retAddr 0, .retAddr 0] [] _ _
  refine wa_aloadV_n (pc := 0) (y := mJ4_resize) dJ4_resize_0 rfl (by first | exact rf_s _ | exact rf_n | exact rf_q _) ?_
  refine wf_get (k := 12) (l := 12) 0 dJ4_resize_1 (by assumption) rfl q207 (Or.inl rfl) (Nat.le_of_ble_eq_true rfl) (Nat.le_of_ble_eq_true rfl) (by (repeat (first | exact updF_self _ _ _ _ | (apply updF_i; · decide) | (apply updF_a; · first | assumption | (apply Ne.symm; assumption) | omega) | (apply newF_a; · first | assumption | (apply Ne.symm; assumption) | omega) | exact newL_self (by rfl) | exact newF_self (by rfl) | (apply cpyF_a; · first | assumption | (apply Ne.symm; assumption) | omega))) <;> first | assumption | rfl) ?_
  refine wa_astoreV_n (pc := 4) (y := mJ4_resize) dJ4_resize_4 (Nat.le_of_ble_eq_true rfl) (by first | rfl | (simp [okst, rf_cat] <;> assumption)) (by first | exact rf_s _ | exact rf_n | exact rf_q _) ?_
  change WA _ _ _ _ (List.set _ 1 _) _ _ _
  simp only [List.set_cons_zero, List.set_cons_succ]
  refine wa_aloadV_n (pc := 5) (y := mJ4_resize) dJ4_resize_5 rfl (by first | exact rf_s _ | exact rf_n | exact rf_q _) ?_
  refine wa_ifnonnullN (pc := 6) (y := mJ4_resize) dJ4_resize_6 ?_
  refine wa_iconst (pc := 9) (y := mJ4_resize) (Int32.ofNat 0) dJ4_resize_9 rfl ?_
  refine wa_goto (pc := 10) (y := mJ4_resize) 15 dJ4_resize_10 rfl ?_
  refine wa_istore_n (pc := 15) (y := mJ4_resize) dJ4_resize_15 (Nat.le_of_ble_eq_true rfl) (by first | rfl | (simp [okst, rf_cat] <;> assumption)) ?_
  change WA _ _ _ _ (List.set _ 2 _) _ _ _
  simp only [List.set_cons_zero, List.set_cons_succ]
  refine wa_aloadV_n (pc := 16) (y := mJ4_resize) dJ4_resize_16 rfl (by first | exact rf_s _ | exact rf_n | exact rf_q _) ?_
  refine wf_get (k := 12) (l := 12) 4 dJ4_resize_17 (by assumption) rfl q215 (Or.inl rfl) (Nat.le_of_ble_eq_true rfl) (Nat.le_of_ble_eq_true rfl) (by (repeat (first | exact updF_self _ _ _ _ | (apply updF_i; · decide) | (apply updF_a; · first | assumption | (apply Ne.symm; assumption) | omega) | (apply newF_a; · first | assumption | (apply Ne.symm; assumption) | omega) | exact newL_self (by rfl) | exact newF_self (by rfl) | (apply cpyF_a; · first | assumption | (apply Ne.symm; assumption) | omega))) <;> first | assumption | rfl) ?_
  refine wa_istore_n (pc := 20) (y := mJ4_resize) dJ4_resize_20 (Nat.le_of_ble_eq_true rfl) (by first | rfl | (simp [okst, rf_cat] <;> assumption)) ?_
  change WA _ _ _ _ (List.set _ 3 _) _ _ _
  simp only [List.set_cons_zero, List.set_cons_succ]
  refine wa_iconst (pc := 21) (y := mJ4_resize) (Int32.ofNat 0) dJ4_resize_21 rfl ?_
  refine wa_istore (pc := 22) (y := mJ4_resize) dJ4_resize_22 (Nat.le_of_ble_eq_true rfl) (by first | rfl | (simp [okst, rf_cat] <;> assumption)) ?_
  simp only [List.set_cons_zero, List.set_cons_succ]
  refine wa_iload_n (pc := 24) (y := mJ4_resize) dJ4_resize_24 rfl ?_
  refine wa_if_le (pc := 25) 67 dJ4_resize_25 rfl (fun hb25 => ?_) (fun hb25 => absurd hb25 (by decide))
  clear hb25
  refine wa_iload_n (pc := 67) (y := mJ4_resize) dJ4_resize_67 rfl ?_
  refine wa_if_le (pc := 68) 77 dJ4_resize_68 rfl (fun hb68 => ?_) (fun hb68 => absurd (by decide) hb68)
  refine wa_bipush (pc := 77) (y := mJ4_resize) (Int32.ofNat 16) dJ4_resize_77 rfl ?_
  refine wa_istore (pc := 79) (y := mJ4_resize) dJ4_resize_79 (Nat.le_of_ble_eq_true rfl) (by first | rfl | (simp [okst, rf_cat] <;> assumption)) ?_
  simp only [List.set_cons_zero, List.set_cons_succ]
  refine wa_bipush (pc := 81) (y := mJ4_resize) (Int32.ofNat 12) dJ4_resize_81 rfl ?_
  refine wa_istore (pc := 83) (y := mJ4_resize) dJ4_resize_83 (Nat.le_of_ble_eq_true rfl) (by first | rfl | (simp [okst, rf_cat] <;> assumption)) ?_
  simp only [List.set_cons_zero, List.set_cons_succ]
  refine wa_iload (pc := 85) (y := mJ4_resize) dJ4_resize_85 rfl ?_
  refine wa_if_ne (pc := 87) 125 dJ4_resize_87 rfl (fun hb87 => ?_) (fun hb87 => absurd hb87 (by decide))
  exact rz0_125 (k := 4) M9 (by decide)
theorem rz0_t (M : Map0 h F m (2 ^ k)) (hk : 1 ≤ k ∧ k ≤ 8) : MA G d mJ4_resize [.ref m] (sF h F) (RzQ h F m [] k) := by
  have M9 := M
  obtain ⟨hm, m5, m10, m11, mlo, mv, m0, m4⟩ := M
  have hk2 : 2 ^ k < 2 ^ 9 := Nat.pow_lt_pow_right (by decide) (by omega)
  have hk0 : 0 < 2 ^ k := Nat.two_pow_pos k
  change WA G d mJ4_resize 0 [.ref m, .retAddr 0, .retAddr 0, .retAddr 0, .retAddr 0, .retAddr 0, .retAddr 0, .retAddr 0, .retAddr 0, .retAddr 0, .retAddr 0, .retAddr 0, .retAddr 0, .retAddr 0] [] _ _
  refine wa_aloadV_n (pc := 0) (y := mJ4_resize) dJ4_resize_0 rfl (by first | exact rf_s _ | exact rf_n | exact rf_q _) ?_
  refine wf_get (k := 12) (l := 12) 0 dJ4_resize_1 (by assumption) rfl q207 (Or.inl rfl) (Nat.le_of_ble_eq_true rfl) (Nat.le_of_ble_eq_true rfl) (by (repeat (first | exact updF_self _ _ _ _ | (apply updF_i; · decide) | (apply updF_a; · first | assumption | (apply Ne.symm; assumption) | omega) | (apply newF_a; · first | assumption | (apply Ne.symm; assumption) | omega) | exact newL_self (by rfl) | exact newF_self (by rfl) | (apply cpyF_a; · first | assumption | (apply Ne.symm; assumption) | omega))) <;> first | assumption | rfl) ?_
  refine wa_astoreV_n (pc := 4) (y := mJ4_resize) dJ4_resize_4 (Nat.le_of_ble_eq_true rfl) (by first | rfl | (simp [okst, rf_cat] <;> assumption)) (by first | exact rf_s _ | exact rf_n | exact rf_q _) ?_
  change WA _ _ _ _ (List.set _ 1 _) _ _ _
  simp only [List.set_cons_zero, List.set_cons_succ]
  refine wa_aloadV_n (pc := 5) (y := mJ4_resize) dJ4_resize_5 rfl (by first | exact rf_s _ | exact rf_n | exact rf_q _) ?_
  refine wa_ifnonnullN (pc := 6) (y := mJ4_resize) dJ4_resize_6 ?_
  refine wa_iconst (pc := 9) (y := mJ4_resize) (Int32.ofNat 0) dJ4_resize_9 rfl ?_
  refine wa_goto (pc := 10) (y := mJ4_resize) 15 dJ4_resize_10 rfl ?_
  refine wa_istore_n (pc := 15) (y := mJ4_resize) dJ4_resize_15 (Nat.le_of_ble_eq_true rfl) (by first | rfl | (simp [okst, rf_cat] <;> assumption)) ?_
  change WA _ _ _ _ (List.set _ 2 _) _ _ _
  simp only [List.set_cons_zero, List.set_cons_succ]
  refine wa_aloadV_n (pc := 16) (y := mJ4_resize) dJ4_resize_16 rfl (by first | exact rf_s _ | exact rf_n | exact rf_q _) ?_
  refine wf_get (k := 12) (l := 12) 4 dJ4_resize_17 (by assumption) rfl q215 (Or.inl rfl) (Nat.le_of_ble_eq_true rfl) (Nat.le_of_ble_eq_true rfl) (by (repeat (first | exact updF_self _ _ _ _ | (apply updF_i; · decide) | (apply updF_a; · first | assumption | (apply Ne.symm; assumption) | omega) | (apply newF_a; · first | assumption | (apply Ne.symm; assumption) | omega) | exact newL_self (by rfl) | exact newF_self (by rfl) | (apply cpyF_a; · first | assumption | (apply Ne.symm; assumption) | omega))) <;> first | assumption | rfl) ?_
  refine wa_istore_n (pc := 20) (y := mJ4_resize) dJ4_resize_20 (Nat.le_of_ble_eq_true rfl) (by first | rfl | (simp [okst, rf_cat] <;> assumption)) ?_
  change WA _ _ _ _ (List.set _ 3 _) _ _ _
  simp only [List.set_cons_zero, List.set_cons_succ]
  refine wa_iconst (pc := 21) (y := mJ4_resize) (Int32.ofNat 0) dJ4_resize_21 rfl ?_
  refine wa_istore (pc := 22) (y := mJ4_resize) dJ4_resize_22 (Nat.le_of_ble_eq_true rfl) (by first | rfl | (simp [okst, rf_cat] <;> assumption)) ?_
  simp only [List.set_cons_zero, List.set_cons_succ]
  refine wa_iload_n (pc := 24) (y := mJ4_resize) dJ4_resize_24 rfl ?_
  refine wa_if_le (pc := 25) 67 dJ4_resize_25 rfl (fun hb25 => ?_) (fun hb25 => absurd hb25 (by decide))
  clear hb25
  refine wa_iload_n (pc := 67) (y := mJ4_resize) dJ4_resize_67 rfl ?_
  refine wa_if_le (pc := 68) 77 dJ4_resize_68 rfl (fun hb68 => absurd hb68 (Int32.not_le.mpr ((iN_gt0 (by omega)).mpr hk0))) (fun hb68 => ?_)
  refine wa_iload_n (pc := 71) (y := mJ4_resize) dJ4_resize_71 rfl ?_
  refine wa_istore (pc := 72) (y := mJ4_resize) dJ4_resize_72 (Nat.le_of_ble_eq_true rfl) (by first | rfl | (simp [okst, rf_cat] <;> assumption)) ?_
  simp only [List.set_cons_zero, List.set_cons_succ]
  refine wa_goto (pc := 74) (y := mJ4_resize) 85 dJ4_resize_74 rfl ?_
  refine wa_iload (pc := 85) (y := mJ4_resize) dJ4_resize_85 rfl ?_
  refine wa_if_ne (pc := 87) 125 dJ4_resize_87 rfl (fun hb87 => absurd hb87 (by decide)) (fun hb87 => ?_)
  clear hb87
  refine wa_iload (pc := 90) (y := mJ4_resize) dJ4_resize_90 rfl ?_
  refine wa_i2f (pc := 92) (y := mJ4_resize) dJ4_resize_92 ?_
  refine wa_aloadV_n (pc := 93) (y := mJ4_resize) dJ4_resize_93 rfl (by first | exact rf_s _ | exact rf_n | exact rf_q _) ?_
  refine wf_get (k := 12) (l := 12) 5 dJ4_resize_94 (by assumption) rfl q216 (Or.inl rfl) (Nat.le_of_ble_eq_true rfl) (Nat.le_of_ble_eq_true rfl) (by (repeat (first | exact updF_self _ _ _ _ | (apply updF_i; · decide) | (apply updF_a; · first | assumption | (apply Ne.symm; assumption) | omega) | (apply newF_a; · first | assumption | (apply Ne.symm; assumption) | omega) | exact newL_self (by rfl) | exact newF_self (by rfl) | (apply cpyF_a; · first | assumption | (apply Ne.symm; assumption) | omega))) <;> first | assumption | rfl) ?_
  refine wa_fmul (pc := 97) (y := mJ4_resize) dJ4_resize_97 (fl_nn (k := k) hk) ?_
  refine wa_fstore (pc := 98) (y := mJ4_resize) dJ4_resize_98 (Nat.le_of_ble_eq_true rfl) (by first | rfl | (simp [okst, rf_cat] <;> assumption)) ?_
  simp only [List.set_cons_zero, List.set_cons_succ]
  refine wa_iload (pc := 100) (y := mJ4_resize) dJ4_resize_100 rfl ?_
  refine wa_ldc (pc := 102) (y := mJ4_resize) dJ4_resize_102 q1272 ?_
  refine wa_icmp_ge (pc := 104) 121 dJ4_resize_104 rfl (fun hb104 => absurd hb104 (Int32.not_le.mpr ((iN_lt (b := 1073741824) (by omega) (by omega)).mpr (by omega)))) (fun hb104 => ?_)
  refine wa_fload (pc := 107) (y := mJ4_resize) dJ4_resize_107 rfl ?_
  refine wa_ldcf (pc := 109) (y := mJ4_resize) dJ4_resize_109 q1283 ?_
  refine wa_fcmp (pc := 111) (y := mJ4_resize) dJ4_resize_111 ?_
  refine wa_if_ge (pc := 112) 121 dJ4_resize_112 rfl (fun hb112 => absurd hb112 (Int32.not_le.mpr (fl_cmp (k := k) hk))) (fun hb112 => ?_)
  refine wa_fload (pc := 115) (y := mJ4_resize) dJ4_resize_115 rfl ?_
  refine wa_f2i (pc := 117) (y := mJ4_resize) dJ4_resize_117 ?_
  rw [fl_thr (k := k) hk]
  refine wa_goto (pc := 118) (y := mJ4_resize) 123 dJ4_resize_118 rfl ?_
  refine wa_istore (pc := 123) (y := mJ4_resize) dJ4_resize_123 (Nat.le_of_ble_eq_true rfl) (by first | rfl | (simp [okst, rf_cat] <;> assumption)) ?_
  simp only [List.set_cons_zero, List.set_cons_succ]
  exact rz0_125 M9 hk
end RZ4
