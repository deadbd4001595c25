/-! ===== putVal: its end ===== -/
section PUT2
variable {G : GG} {d n : Nat} {h h1 h2 h3 : AH} {F F1 F2 F3 : Nat → Nat → Value} {l m p q x k k1 k2 k3 tb bi i j c s w vv : Nat} {ev ev4 : Int32} {ns ns2 ns3 a b A D L : List Nat} {B : Nat → List Nat}
theorem s_J5_removeEldestEntry {h0 : AH} : MA G d mJ5_removeEldestEntry [.ref m, .ref p] h0 (fun r h' => r = .inl (some (.int 0)) ∧ h' = h0) := by
  change WA G d mJ5_removeEldestEntry 0 [.ref m, .ref p] [] _ _
  refine wa_iconst (pc := 0) (y := mJ5_removeEldestEntry) (Int32.ofNat 0) dJ5_removeEldestEntry_0 rfl ?_
  refine wa_ireturn (pc := 1) (y := mJ5_removeEldestEntry) .boolean dJ5_removeEldestEntry_1 rfl (by first | rfl | exact bI_nar _) ⟨rfl, rfl⟩
theorem s_J5_afterNodeInsertion (hd : 1 ≤ d) (hm : Is h m 12 12) (lo : LO F m ns) : MA G d mJ5_afterNodeInsertion [.ref m, .int ev] (sF h F) (fun r h' => r = .inl none ∧ h' = sF h F) := by
  have h8 := lo.1
  change WA G d mJ5_afterNodeInsertion 0 [.ref m, .int ev, .retAddr 0, .retAddr 0] [] _ _
  refine wa_iload_n (pc := 0) (y := mJ5_afterNodeInsertion) dJ5_afterNodeInsertion_0 rfl ?_
  refine wa_if_eq (pc := 1) 39 dJ5_afterNodeInsertion_1 rfl (fun hb1 => ?_) (fun hb1 => ?_)
  · refine wa_return (pc := 39) (y := mJ5_afterNodeInsertion) dJ5_afterNodeInsertion_39 rfl ⟨rfl, rfl⟩
  · refine wa_aloadV_n (pc := 4) (y := mJ5_afterNodeInsertion) dJ5_afterNodeInsertion_4 rfl (by first | exact rf_s _ | exact rf_n | exact rf_q _) ?_
    refine wf_get (k := 12) (l := 12) 8 dJ5_afterNodeInsertion_5 (by assumption) rfl q201 (Or.inl rfl) (Nat.le_of_ble_eq_true rfl) (Nat.le_of_ble_eq_true rfl) (by (repeat (first | exact updF_self _ _ _ _ | (apply updF_i; · decide) | (apply updF_a; · first | assumption | (apply Ne.symm; assumption) | omega) | (apply newF_a; · first | assumption | (apply Ne.symm; assumption) | omega) | exact newL_self (by rfl) | exact newF_self (by rfl) | (apply cpyF_a; · first | assumption | (apply Ne.symm; assumption) | omega))) <;> first | assumption | rfl) ?_
    refine wa_dup (pc := 8) (y := mJ5_afterNodeInsertion) dJ5_afterNodeInsertion_8 (by first | rfl | exact rf_cat _) ?_
    refine wa_astoreV_n (pc := 9) (y := mJ5_afterNodeInsertion) dJ5_afterNodeInsertion_9 (Nat.le_of_ble_eq_true rfl) (by first | rfl | (simp [okst, rf_cat] <;> assumption)) (by first | exact rf_s _ | exact rf_n | exact rf_q _) ?_
    change WA _ _ _ _ (List.set _ 2 _) _ _ _
    simp only [List.set_cons_zero, List.set_cons_succ]
    refine wa_ifnullV (pc := 10) 39 dJ5_afterNodeInsertion_10 rfl (by first | exact rf_s _ | exact rf_n | exact rf_q _) (fun hb10 => ?_) (fun a10 hb10 => ?_)
    · refine wa_return (pc := 39) (y := mJ5_afterNodeInsertion) dJ5_afterNodeInsertion_39 rfl ⟨rfl, rfl⟩
    · rw [hb10]
      refine wa_aloadV_n (pc := 13) (y := mJ5_afterNodeInsertion) dJ5_afterNodeInsertion_13 rfl (by first | exact rf_s _ | exact rf_n | exact rf_q _) ?_
      refine wa_aloadV_n (pc := 14) (y := mJ5_afterNodeInsertion) dJ5_afterNodeInsertion_14 rfl (by first | exact rf_s _ | exact rf_n | exact rf_q _) ?_
      refine wa_callV (pc := 15) (s_J5_removeEldestEntry (d := d - 1)) dJ5_afterNodeInsertion_15 okJ5_removeEldestEntry q1662 q1663 q1664 (sF_at (by assumption)) rfl rfl rfl (Nat.le_of_ble_eq_true rfl) (Nat.le_of_ble_eq_true rfl) (by omega) ?_
      rintro _ _ - - ⟨rfl, rfl⟩
      refine aft_v (pc2 := 18) ?_ rfl
      refine wa_if_eq (pc := 18) 39 dJ5_afterNodeInsertion_18 rfl (fun hb18 => ?_) (fun hb18 => absurd rfl hb18)
      refine wa_return (pc := 39) (y := mJ5_afterNodeInsertion) dJ5_afterNodeInsertion_39 rfl ⟨rfl, rfl⟩
theorem es_len (e : es F2 ns2 = es F ns) : ns2.length = ns.length := by
  have := congrArg List.length e
  simpa [es] using this
theorem RzQ.step {r : RR} {h' : AH} (z : RzQ h F m ns k2 r h') (hk : k < k2 ∧ k2 ≤ 8) (hlen : ns.length ≤ 96) : ∃ (h2 : AH) (F2 : Nat → Nat → Value) (nt : Nat) (ns2 : List Nat) (B2 : Nat → List Nat), r = .inl (some (.ref nt)) ∧ h' = sF h2 F2 ∧ MapC h2 F2 m nt k2 ns2 B2 ∧ es F2 ns2 = es F ns ∧ MStep 0 0 m h F ns k h2 F2 ns2 k2 ∧ F2 m 2 = F m 2 ∧ F2 m 3 = F m 3 := by
  obtain ⟨h2, F2, nt, ns2, B2, e0, e1, e2, M, e3, e4, e5, e6, e7⟩ := z
  have hk2 : 2 ^ k2 ≤ 2 ^ 8 := Nat.pow_le_pow_right (by decide) hk.2
  obtain ⟨w, rfl⟩ : ∃ w, k2 = k + (w + 1) := ⟨k2 - k - 1, by omega⟩
  have : k + (w + 1) - k = w + 1 := by omega
  exact ⟨h2, F2, nt, ns2, B2, e0, e1, M, e3, ⟨e4, ⟨by omega, hk.2⟩, by rw [this]; omega, MStep.mfp e6 (Or.inr ⟨nt, M.2.2.2.2.2.2.2.2.2.1, e2⟩) (fun i hi => e7 i (by omega))⟩, e7 2 (by decide), e7 3 (by decide)⟩
/-- what putVal leaves: the size may be too large -/
theorem pv_259 {v2 v3 v4 v6 v7 v8 v9 v10 v11 v12 : Value} {v1 : Value} (hd : 8 ≤ d) (hG : StG G) (M : MapC h F m tb k ns B) (hk8 : k ≤ 8) (hw : ns.length = w + 1) (hw9 : w + 1 ≤ 96) (hl : w ≤ thr k) (h2 : F m 2 = .int (Int32.ofNat w)) (h3 : ∃ z : Int32, F m 3 = .int z) :
    WA G d mJ4_putVal 259 [.ref m, v1, v2, v3, v4, .int ev, v6, v7, v8, v9, v10, v11, v12] [] (sF h F) (fun r h' => r = .inl (some .null) ∧ ∃ (h2 : AH) (F2 : Nat → Nat → Value) (ns2 : List Nat) (k2 : Nat), h' = sF h2 F2 ∧ MapR h2 F2 m ns2 ∧ TK h2 F2 m k2 ∧ es F2 ns2 = es F ns ∧ MStep 0 0 m h F ns k h2 F2 ns2 k2) := by
  obtain ⟨mc, h3⟩ := h3
  have hm := M.1
  obtain ⟨F1, hF1⟩ : ∃ F1, F1 = updF (updF F m 3 (.int (mc + Int32.ofNat 1))) m 2 (.int (Int32.ofNat (w + 1))) := ⟨_, rfl⟩
  have M1 : MapC h F1 m tb k ns B := by rw [hF1]; exact (M.cnt (Or.inr rfl)).cnt (Or.inl rfl)
  have g2 : F1 m 2 = .int (Int32.ofNat (w + 1)) := by rw [hF1, updF_self]
  have g3 : F1 m 3 = .int (mc + Int32.ofNat 1) := by rw [hF1]; exact (updF_i (by decide) rfl).trans (updF_self _ _ _ _)
  have hz : ∀ z j, z ≠ m → F1 z j = F z j := fun z j h => by rw [hF1]; exact (updF_a h rfl).trans (updF_a h rfl)
  have hi : ∀ i, i ≠ 2 → i ≠ 3 → F1 m i = F m i := fun i h2 h3 => by rw [hF1]; exact (updF_i h2 rfl).trans (updF_i h3 rfl)
  have e1 : es F1 ns = es F ns := es_congr fun p hp => ⟨hz p 0 (M.ne.2 p hp).1, hz p 2 (M.ne.2 p hp).1⟩
  have S1 : MStep 0 0 m h F ns k h F1 ns k := ⟨⟨Ext.refl, fun b _ hb => by funext j; exact hz b j fun e => hb (Or.inl e)⟩, by omega, by omega, MStep.mfp (fun z hz => Or.inl hz) (Or.inl (hi 0 (by decide) (by decide))) (fun i h => hi i (by omega) (by omega))⟩
  have m4 : F1 m 4 = .int (Int32.ofNat (thr k)) := M1.2.2.2.2.2.2.2.2.2.2.2.2
  have hth : thr k ≤ 2 ^ 8 := Nat.le_trans thr_le (Nat.pow_le_pow_right (by decide) hk8)
  have hk1 := M.2.2.2.2.2.2.2.2.2.2.2.1
  rcases Nat.lt_or_ge (thr k) (w + 1) with hov | hov
  · have hk7 : k ≤ 6 := by
      rcases Nat.lt_or_ge k 7 with h9 | h9
      · omega
      · have : thr 7 ≤ thr k := by
          unfold thr
          have := Nat.pow_le_pow_right (n := 2) (by decide) h9
          omega
        have : thr 7 = 96 := by decide
        omega
    have hth2 : w + 1 ≤ thr (k + 1) := by
      have h4 : thr k + 1 ≤ thr (k + 1) := by
        unfold thr
        have h9 : 2 ^ 1 ≤ 2 ^ k := Nat.pow_le_pow_right (by decide) hk1.1
        rw [Nat.pow_succ]
        omega
      omega
    refine wa_aloadV_n (pc := 259) (y := mJ4_putVal) dJ4_putVal_259 rfl (by first | exact rf_s _ | exact rf_n | exact rf_q _) ?_
    refine wa_dup (pc := 260) (y := mJ4_putVal) dJ4_putVal_260 (by first | rfl | exact rf_cat _) ?_
    refine wf_get (k := 12) (l := 12) 3 dJ4_putVal_261 (by assumption) rfl q214 (Or.inl rfl) (Nat.le_of_ble_eq_true rfl) (Nat.le_of_ble_eq_true rfl) (by (repeat (first | exact updF_self _ _ _ _ | (apply updF_i; · decide) | (apply updF_a; · first | assumption | (apply Ne.symm; assumption) | omega) | (apply newF_a; · first | assumption | (apply Ne.symm; assumption) | omega) | exact newL_self (by rfl) | exact newF_self (by rfl) | (apply cpyF_a; · first | assumption | (apply Ne.symm; assumption) | omega))) <;> first | assumption | rfl) ?_
    refine wa_iconst (pc := 264) (y := mJ4_putVal) (Int32.ofNat 1) dJ4_putVal_264 rfl ?_
    first | with_reducible refine wa_iaddN (pc := 265) (y := mJ4_putVal) dJ4_putVal_265 ?_ | refine wa_iadd (pc := 265) (y := mJ4_putVal) dJ4_putVal_265 ?_
    refine wf_put (k := 12) (l := 12) 3 .int dJ4_putVal_266 (by assumption) rfl q214 (Or.inl rfl) (Nat.le_of_ble_eq_true rfl) rfl (by decide +kernel) rfl rfl ?_
    refine wa_aloadV_n (pc := 269) (y := mJ4_putVal) dJ4_putVal_269 rfl (by first | exact rf_s _ | exact rf_n | exact rf_q _) ?_
    refine wa_dup (pc := 270) (y := mJ4_putVal) dJ4_putVal_270 (by first | rfl | exact rf_cat _) ?_
    refine wf_get (k := 12) (l := 12) 2 dJ4_putVal_271 (by assumption) rfl q210 (Or.inl rfl) (Nat.le_of_ble_eq_true rfl) (Nat.le_of_ble_eq_true rfl) (by (repeat (first | exact updF_self _ _ _ _ | (apply updF_i; · decide) | (apply updF_a; · first | assumption | (apply Ne.symm; assumption) | omega) | (apply newF_a; · first | assumption | (apply Ne.symm; assumption) | omega) | exact newL_self (by rfl) | exact newF_self (by rfl) | (apply cpyF_a; · first | assumption | (apply Ne.symm; assumption) | omega))) <;> first | assumption | rfl) ?_
    refine wa_iconst (pc := 274) (y := mJ4_putVal) (Int32.ofNat 1) dJ4_putVal_274 rfl ?_
    first | with_reducible refine wa_iaddN (pc := 275) (y := mJ4_putVal) dJ4_putVal_275 ?_ | refine wa_iadd (pc := 275) (y := mJ4_putVal) dJ4_putVal_275 ?_
    refine wa_dup_x1 (pc := 276) (y := mJ4_putVal) dJ4_putVal_276 (by first | rfl | exact rf_cat _) (by first | rfl | exact rf_cat _) ?_
    refine wf_put (k := 12) (l := 12) 2 .int dJ4_putVal_277 (by assumption) rfl q210 (Or.inl rfl) (Nat.le_of_ble_eq_true rfl) rfl (by decide +kernel) rfl rfl ?_
    rw [← hF1]
    refine wa_aloadV_n (pc := 280) (y := mJ4_putVal) dJ4_putVal_280 rfl (by first | exact rf_s _ | exact rf_n | exact rf_q _) ?_
    refine wf_get (k := 12) (l := 12) 4 dJ4_putVal_281 (by assumption) rfl q215 (Or.inl rfl) (Nat.le_of_ble_eq_true rfl) (Nat.le_of_ble_eq_true rfl) (by (repeat (first | exact updF_self _ _ _ _ | (apply updF_i; · decide) | (apply updF_a; · first | assumption | (apply Ne.symm; assumption) | omega) | (apply newF_a; · first | assumption | (apply Ne.symm; assumption) | omega) | exact newL_self (by rfl) | exact newF_self (by rfl) | (apply cpyF_a; · first | assumption | (apply Ne.symm; assumption) | omega))) <;> first | assumption | rfl) ?_
    refine wa_icmp_le (pc := 284) 292 dJ4_putVal_284 rfl (fun hb284 => absurd ((iN_le (by omega) (by omega)).mp hb284) (by omega)) (fun hb284 => ?_)
    refine wa_aloadV_n (pc := 287) (y := mJ4_putVal) dJ4_putVal_287 rfl (by first | exact rf_s _ | exact rf_n | exact rf_q _) ?_
    refine wa_callW (k := 12) (pc := 288) (owner := "java/util/HashMap") (s_J4_resize (d := d - 1) (by omega) hG M1 (by omega) (by omega)) dJ4_putVal_288 okJ4_resize rfl q1277 q1279 (hDc_code q1278 q1281) (by decide) q1280 q1278 (sF_at (by assumption)) rfl rfl rfl rfl (Nat.le_of_ble_eq_true rfl) (Nat.le_of_ble_eq_true rfl) (by omega) ?_
    rintro _ _ - - Z
    obtain ⟨h9, F9, nt, ns9, B9, rfl, rfl, MC, z2, z3, z4, z5⟩ := Z.step (k := k) (by omega) (by omega)
    refine aft_v (pc2 := 291) ?_ rfl
    have hm9 := MC.1
    refine wa_pop (pc := 291) (y := mJ4_putVal) dJ4_putVal_291 (by first | rfl | exact rf_cat _) ?_
    refine wa_aloadV_n (pc := 292) (y := mJ4_putVal) dJ4_putVal_292 rfl (by first | exact rf_s _ | exact rf_n | exact rf_q _) ?_
    refine wa_iload (pc := 293) (y := mJ4_putVal) dJ4_putVal_293 rfl ?_
    refine wa_callW (k := 12) (pc := 295) (owner := "java/util/HashMap") (s_J5_afterNodeInsertion (d := d - 1) (by omega) MC.1 MC.2.2.2.2.1) dJ4_putVal_295 okJ5_afterNodeInsertion rfl q1656 q1658 (hDc_decl q1666) (by decide) q1659 q1660 (sF_at (by assumption)) rfl rfl rfl rfl (Nat.le_of_ble_eq_true rfl) (Nat.le_of_ble_eq_true rfl) (by omega) ?_
    rintro _ _ - - ⟨rfl, rfl⟩
    refine aft_0 (pc2 := 298) ?_ rfl
    refine wa_null (pc := 298) (y := mJ4_putVal) dJ4_putVal_298 ?_
    refine wa_areturnV (pc := 299) (y := mJ4_putVal) (.object "java/lang/Object") dJ4_putVal_299 rfl (Or.inl ⟨_, rfl⟩) (by first | exact rf_s _ | exact rf_n | exact rf_q _) ⟨rfl, h9, F9, ns9, k + 1, rfl, MC.toR (by rw [es_len z2, hw]; exact z4.trans g2) ⟨_, z5.trans g3⟩ (by rw [es_len z2, hw]; exact hth2), MC.tk, z2.trans e1, (S1.trans z3).mono (by omega) (by omega)⟩
  · refine wa_aloadV_n (pc := 259) (y := mJ4_putVal) dJ4_putVal_259 rfl (by first | exact rf_s _ | exact rf_n | exact rf_q _) ?_
    refine wa_dup (pc := 260) (y := mJ4_putVal) dJ4_putVal_260 (by first | rfl | exact rf_cat _) ?_
    refine wf_get (k := 12) (l := 12) 3 dJ4_putVal_261 (by assumption) rfl q214 (Or.inl rfl) (Nat.le_of_ble_eq_true rfl) (Nat.le_of_ble_eq_true rfl) (by (repeat (first | exact updF_self _ _ _ _ | (apply updF_i; · decide) | (apply updF_a; · first | assumption | (apply Ne.symm; assumption) | omega) | (apply newF_a; · first | assumption | (apply Ne.symm; assumption) | omega) | exact newL_self (by rfl) | exact newF_self (by rfl) | (apply cpyF_a; · first | assumption | (apply Ne.symm; assumption) | omega))) <;> first | assumption | rfl) ?_
    refine wa_iconst (pc := 264) (y := mJ4_putVal) (Int32.ofNat 1) dJ4_putVal_264 rfl ?_
    first | with_reducible refine wa_iaddN (pc := 265) (y := mJ4_putVal) dJ4_putVal_265 ?_ | refine wa_iadd (pc := 265) (y := mJ4_putVal) dJ4_putVal_265 ?_
    refine wf_put (k := 12) (l := 12) 3 .int dJ4_putVal_266 (by assumption) rfl q214 (Or.inl rfl) (Nat.le_of_ble_eq_true rfl) rfl (by decide +kernel) rfl rfl ?_
    refine wa_aloadV_n (pc := 269) (y := mJ4_putVal) dJ4_putVal_269 rfl (by first | exact rf_s _ | exact rf_n | exact rf_q _) ?_
    refine wa_dup (pc := 270) (y := mJ4_putVal) dJ4_putVal_270 (by first | rfl | exact rf_cat _) ?_
    refine wf_get (k := 12) (l := 12) 2 dJ4_putVal_271 (by assumption) rfl q210 (Or.inl rfl) (Nat.le_of_ble_eq_true rfl) (Nat.le_of_ble_eq_true rfl) (by (repeat (first | exact updF_self _ _ _ _ | (apply updF_i; · decide) | (apply updF_a; · first | assumption | (apply Ne.symm; assumption) | omega) | (apply newF_a; · first | assumption | (apply Ne.symm; assumption) | omega) | exact newL_self (by rfl) | exact newF_self (by rfl) | (apply cpyF_a; · first | assumption | (apply Ne.symm; assumption) | omega))) <;> first | assumption | rfl) ?_
    refine wa_iconst (pc := 274) (y := mJ4_putVal) (Int32.ofNat 1) dJ4_putVal_274 rfl ?_
    first | with_reducible refine wa_iaddN (pc := 275) (y := mJ4_putVal) dJ4_putVal_275 ?_ | refine wa_iadd (pc := 275) (y := mJ4_putVal) dJ4_putVal_275 ?_
    refine wa_dup_x1 (pc := 276) (y := mJ4_putVal) dJ4_putVal_276 (by first | rfl | exact rf_cat _) (by first | rfl | exact rf_cat _) ?_
    refine wf_put (k := 12) (l := 12) 2 .int dJ4_putVal_277 (by assumption) rfl q210 (Or.inl rfl) (Nat.le_of_ble_eq_true rfl) rfl (by decide +kernel) rfl rfl ?_
    rw [← hF1]
    refine wa_aloadV_n (pc := 280) (y := mJ4_putVal) dJ4_putVal_280 rfl (by first | exact rf_s _ | exact rf_n | exact rf_q _) ?_
    refine wf_get (k := 12) (l := 12) 4 dJ4_putVal_281 (by assumption) rfl q215 (Or.inl rfl) (Nat.le_of_ble_eq_true rfl) (Nat.le_of_ble_eq_true rfl) (by (repeat (first | exact updF_self _ _ _ _ | (apply updF_i; · decide) | (apply updF_a; · first | assumption | (apply Ne.symm; assumption) | omega) | (apply newF_a; · first | assumption | (apply Ne.symm; assumption) | omega) | exact newL_self (by rfl) | exact newF_self (by rfl) | (apply cpyF_a; · first | assumption | (apply Ne.symm; assumption) | omega))) <;> first | assumption | rfl) ?_
    refine wa_icmp_le (pc := 284) 292 dJ4_putVal_284 rfl (fun hb284 => ?_) (fun hb284 => absurd ((iN_le (by omega) (by omega)).mpr hov) hb284)
    refine wa_aloadV_n (pc := 292) (y := mJ4_putVal) dJ4_putVal_292 rfl (by first | exact rf_s _ | exact rf_n | exact rf_q _) ?_
    refine wa_iload (pc := 293) (y := mJ4_putVal) dJ4_putVal_293 rfl ?_
    refine wa_callW (k := 12) (pc := 295) (owner := "java/util/HashMap") (s_J5_afterNodeInsertion (d := d - 1) (by omega) M1.1 M1.2.2.2.2.1) dJ4_putVal_295 okJ5_afterNodeInsertion rfl q1656 q1658 (hDc_decl q1666) (by decide) q1659 q1660 (sF_at (by assumption)) rfl rfl rfl rfl (Nat.le_of_ble_eq_true rfl) (Nat.le_of_ble_eq_true rfl) (by omega) ?_
    rintro _ _ - - ⟨rfl, rfl⟩
    refine aft_0 (pc2 := 298) ?_ rfl
    refine wa_null (pc := 298) (y := mJ4_putVal) dJ4_putVal_298 ?_
    refine wa_areturnV (pc := 299) (y := mJ4_putVal) (.object "java/lang/Object") dJ4_putVal_299 rfl (Or.inl ⟨_, rfl⟩) (by first | exact rf_s _ | exact rf_n | exact rf_q _) ⟨rfl, h, F1, ns, k, rfl, M1.toR (by rw [hw]; exact g2) ⟨_, g3⟩ (by omega), M1.tk, e1, S1⟩
end PUT2
