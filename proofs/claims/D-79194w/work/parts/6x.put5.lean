/-! ===== put ===== -/
section PUT5
variable {G : GG} {d n : Nat} {h h2 : AH} {F F2 : Nat → Nat → Value} {l m p q x k k2 tb b c s vv : Nat} {ev : Int32} {ns ns2 : List Nat} {B : Nat → List Nat}
theorem MFp.kd (M : MapR h F m ns) (hb : MFp F m ns b) : Is h b 12 12 ∨ Nd h b ∨ (∃ l, Is h b 36 l) ∨ Is h b 19 2 ∨ Is h b 15 2 ∨ Is h b 17 2 := by
  obtain ⟨m1, m2, m3, m5, m10, m11, mlo, mn, mN, minj, mv, mt⟩ := M
  rcases hb with e | e | e | e | e | e
  · subst e; exact Or.inl m1
  · exact Or.inr (Or.inl (mN b e).1)
  · rcases mt with ⟨t1, -⟩ | ⟨tb, k2, B, t1, ⟨tI, tB⟩, t3, t4, t5⟩
    · rw [t1] at e; cases e
    · rw [t1] at e; cases e; exact Or.inr (Or.inr (Or.inl ⟨_, tI⟩))
  · rcases mv.1 with V | ⟨v8, q1, q2, -⟩
    · rw [V] at e; cases e
    · rw [q1] at e; cases e; exact Or.inr (Or.inr (Or.inr (Or.inl q2)))
  · rcases mv.2.1 with V | ⟨v8, q1, q2, -⟩
    · rw [V] at e; cases e
    · rw [q1] at e; cases e; exact Or.inr (Or.inr (Or.inr (Or.inr (Or.inl q2))))
  · rcases mv.2.2 with V | ⟨v8, q1, q2, -⟩
    · rw [V] at e; cases e
    · rw [q1] at e; cases e; exact Or.inr (Or.inr (Or.inr (Or.inr (Or.inr q2))))
/-- a cell of another kind is none of the map's -/
theorem MFp.no (M : MapR h F m ns) (hi : Is h b k l) (hk : k ≠ 12 ∧ k ≠ 13 ∧ k ≠ 14 ∧ k ≠ 36 ∧ k ≠ 19 ∧ k ≠ 15 ∧ k ≠ 17) : ¬ MFp F m ns b := fun hb => by
  rcases MFp.kd M hb with e | e | ⟨l, e⟩ | e | e | e
  · exact e.ne hi (by omega) rfl
  · exact e.ne hi (by omega) (by omega) rfl
  · exact e.ne hi (by omega) rfl
  · exact e.ne hi (by omega) rfl
  · exact e.ne hi (by omega) rfl
  · exact e.ne hi (by omega) rfl
theorem MFp.lt (M : MapR h F m ns) (hb : MFp F m ns b) : b < h.1 := by
  rcases MFp.kd M hb with e | e | ⟨l, e⟩ | e | e | e
  · exact e.lt
  · exact e.lt
  · exact e.lt
  · exact e.lt
  · exact e.lt
  · exact e.lt
theorem KeyAt.fr {P : Nat → Prop} (K : KeyAt h F q x) (f : Fr P h F h2 F2) (hq : ¬ P q) : KeyAt h2 F2 q x :=
  ⟨f.is K.1, (f.at K.1.lt hq 0).trans K.2.1, (f.at K.1.lt hq 1).trans K.2.2.1, K.2.2.2⟩
theorem s_J4_putVal (hd : 10 ≤ d) (hG : StG G) (M : MapR h F m ns) (t : TK h F m k) (hl9 : ns.length ≤ 95) (K : KeyAt h F q x) :
    MA G d mJ4_putVal [.ref m, .int (Int32.ofNat x), .ref q, .ref vv, .int 0, .int ev] (sF h F) (PtQ m h F ns k x vv) := by
  have M9 := M
  obtain ⟨m1, m2, m3, m5, m10, m11, mlo, mn, mN, minj, mv, mt⟩ := M
  change WA G d mJ4_putVal 0 [.ref m, .int (Int32.ofNat x), .ref q, .ref vv, .int 0, .int ev, .retAddr 0, .retAddr 0, .retAddr 0, .retAddr 0, .retAddr 0, .retAddr 0, .retAddr 0] [] _ _
  rcases mt with ⟨t1, rfl, t0, t4, ht⟩ | ⟨tb, k2, B, t1, ⟨tI, tB⟩, hk, t4, t5⟩
  · have hk0 : k = 0 := t.uniq (Or.inl ⟨t1, rfl⟩)
    subst hk0
    have fin : ∀ (k2 : Nat) (r : RR) (h' : AH), RzQ h F m [] k2 r h' → (0 < k2 ∧ k2 ≤ 8) → ∃ (h2 : AH) (F2 : Nat → Nat → Value) (nt : Nat), r = .inl (some (.ref nt)) ∧ h' = sF h2 F2 ∧ Is h2 nt 36 (2 ^ k2) ∧
        ∀ v7 v9 v10 v11 v12 : Value, v7.category = 1 → v9.category = 1 → v10.category = 1 → v11.category = 1 → WA G d mJ4_putVal 29 [.ref m, .int (Int32.ofNat x), .ref q, .ref vv, .int 0, .int ev, .ref nt, v7, .int (Int32.ofNat (2 ^ k2)), v9, v10, v11, v12] [] (sF h2 F2) (PtQ m h F [] 0 x vv) := by
      intro k2 r h' Z hk2
      obtain ⟨h2, F2, nt, ns2, B2, e0, e1, MC, e2, S, e3, e4⟩ := Z.step (k := 0) hk2 (by simp)
      have hns : ns2 = [] := by have := es_len e2; simpa using this
      subst hns
      refine ⟨h2, F2, nt, e0, e1, MC.tbl, fun v7 v9 v10 v11 v12 c7 c9 c10 c11 => ?_⟩
      refine (pv_29 hd hG MC (e3.trans m2) (m3.imp fun z hz => e4.trans hz) (Nat.zero_le _) (by simp) (K.fr S.1 (MFp.no M9 K.1 (by decide))) c7 c9 c10 c11).mono fun r h' _ _ ⟨h4, F4, ns4, k4, f1, f2, f3, f4, f5⟩ => ⟨h4, F4, ns4, k4, f1, f2, f3, (S.trans f4).mono (by omega) (by omega), by rw [← e2]; exact f5⟩
    have M0 : Map0 h F m t0 := ⟨m1, m5, m10, m11, mlo, mv, t1, t4⟩
    rcases ht with rfl | ⟨k2, hk1, hk7, rfl⟩
    · refine wa_aloadV_n (pc := 0) (y := mJ4_putVal) dJ4_putVal_0 rfl (by first | exact rf_s _ | exact rf_n | exact rf_q _) ?_
      refine wf_get (k := 12) (l := 12) 0 dJ4_putVal_1 (by assumption) rfl q207 (Or.inl rfl) (Nat.le_of_ble_eq_true rfl) (Nat.le_of_ble_eq_true rfl) (by (repeat (first | exact updF_self _ _ _ _ | (apply updF_i; · decide) | (apply updF_a; · first | assumption | (apply Ne.symm; assumption) | omega) | (apply newF_a; · first | assumption | (apply Ne.symm; assumption) | omega) | exact newL_self (by rfl) | exact newF_self (by rfl) | (apply cpyF_a; · first | assumption | (apply Ne.symm; assumption) | omega))) <;> first | assumption | rfl) ?_
      refine wa_dup (pc := 4) (y := mJ4_putVal) dJ4_putVal_4 (by first | rfl | exact rf_cat _) ?_
      refine wa_astoreV (pc := 5) (y := mJ4_putVal) dJ4_putVal_5 (Nat.le_of_ble_eq_true rfl) (by first | rfl | (simp [okst, rf_cat] <;> assumption)) (by first | exact rf_s _ | exact rf_n | exact rf_q _) ?_
      simp only [List.set_cons_zero, List.set_cons_succ]
      refine wa_ifnullN (pc := 7) (y := mJ4_putVal) 19 dJ4_putVal_7 rfl ?_
      refine wa_aloadV_n (pc := 19) (y := mJ4_putVal) dJ4_putVal_19 rfl (by first | exact rf_s _ | exact rf_n | exact rf_q _) ?_
      refine wa_callW (k := 12) (pc := 20) (owner := "java/util/HashMap") (rz0_0 (d := d - 1) M0) dJ4_putVal_20 okJ4_resize rfl q1277 q1279 (hDc_code q1278 q1281) (by decide) q1280 q1278 (sF_at (by assumption)) rfl rfl rfl rfl (Nat.le_of_ble_eq_true rfl) (Nat.le_of_ble_eq_true rfl) (by omega) ?_
      rintro _ _ - - Z
      obtain ⟨h2, F2, nt, rfl, rfl, hI, K9⟩ := fin 4 _ _ Z (by decide)
      refine aft_v (pc2 := 23) ?_ rfl
      refine wa_dup (pc := 23) (y := mJ4_putVal) dJ4_putVal_23 (by first | rfl | exact rf_cat _) ?_
      refine wa_astoreV (pc := 24) (y := mJ4_putVal) dJ4_putVal_24 (Nat.le_of_ble_eq_true rfl) (by first | rfl | (simp [okst, rf_cat] <;> assumption)) (by first | exact rf_s _ | exact rf_n | exact rf_q _) ?_
      simp only [List.set_cons_zero, List.set_cons_succ]
      refine wf_alen dJ4_putVal_26 (by assumption) (by decide) ?_
      refine wa_istore (pc := 27) (y := mJ4_putVal) dJ4_putVal_27 (Nat.le_of_ble_eq_true rfl) (by first | rfl | (simp [okst, rf_cat] <;> assumption)) ?_
      simp only [List.set_cons_zero, List.set_cons_succ]
      exact K9 _ _ _ _ _ rfl rfl rfl rfl
    · refine wa_aloadV_n (pc := 0) (y := mJ4_putVal) dJ4_putVal_0 rfl (by first | exact rf_s _ | exact rf_n | exact rf_q _) ?_
      refine wf_get (k := 12) (l := 12) 0 dJ4_putVal_1 (by assumption) rfl q207 (Or.inl rfl) (Nat.le_of_ble_eq_true rfl) (Nat.le_of_ble_eq_true rfl) (by (repeat (first | exact updF_self _ _ _ _ | (apply updF_i; · decide) | (apply updF_a; · first | assumption | (apply Ne.symm; assumption) | omega) | (apply newF_a; · first | assumption | (apply Ne.symm; assumption) | omega) | exact newL_self (by rfl) | exact newF_self (by rfl) | (apply cpyF_a; · first | assumption | (apply Ne.symm; assumption) | omega))) <;> first | assumption | rfl) ?_
      refine wa_dup (pc := 4) (y := mJ4_putVal) dJ4_putVal_4 (by first | rfl | exact rf_cat _) ?_
      refine wa_astoreV (pc := 5) (y := mJ4_putVal) dJ4_putVal_5 (Nat.le_of_ble_eq_true rfl) (by first | rfl | (simp [okst, rf_cat] <;> assumption)) (by first | exact rf_s _ | exact rf_n | exact rf_q _) ?_
      simp only [List.set_cons_zero, List.set_cons_succ]
      refine wa_ifnullN (pc := 7) (y := mJ4_putVal) 19 dJ4_putVal_7 rfl ?_
      refine wa_aloadV_n (pc := 19) (y := mJ4_putVal) dJ4_putVal_19 rfl (by first | exact rf_s _ | exact rf_n | exact rf_q _) ?_
      refine wa_callW (k := 12) (pc := 20) (owner := "java/util/HashMap") (rz0_t (d := d - 1) M0 ⟨hk1, by omega⟩) dJ4_putVal_20 okJ4_resize rfl q1277 q1279 (hDc_code q1278 q1281) (by decide) q1280 q1278 (sF_at (by assumption)) rfl rfl rfl rfl (Nat.le_of_ble_eq_true rfl) (Nat.le_of_ble_eq_true rfl) (by omega) ?_
      rintro _ _ - - Z
      obtain ⟨h2, F2, nt, rfl, rfl, hI, K9⟩ := fin k2 _ _ Z (by omega)
      refine aft_v (pc2 := 23) ?_ rfl
      refine wa_dup (pc := 23) (y := mJ4_putVal) dJ4_putVal_23 (by first | rfl | exact rf_cat _) ?_
      refine wa_astoreV (pc := 24) (y := mJ4_putVal) dJ4_putVal_24 (Nat.le_of_ble_eq_true rfl) (by first | rfl | (simp [okst, rf_cat] <;> assumption)) (by first | exact rf_s _ | exact rf_n | exact rf_q _) ?_
      simp only [List.set_cons_zero, List.set_cons_succ]
      refine wf_alen dJ4_putVal_26 (by assumption) (by decide) ?_
      refine wa_istore (pc := 27) (y := mJ4_putVal) dJ4_putVal_27 (Nat.le_of_ble_eq_true rfl) (by first | rfl | (simp [okst, rf_cat] <;> assumption)) ?_
      simp only [List.set_cons_zero, List.set_cons_succ]
      exact K9 _ _ _ _ _ rfl rfl rfl rfl
  · have hke : k = k2 := t.uniq (Or.inr ⟨tb, t1, tI⟩)
    subst hke
    have hk2 : 2 ^ k < 2 ^ 9 := Nat.pow_lt_pow_right (by decide) (by omega)
    have hk0 : 0 < 2 ^ k := Nat.two_pow_pos k
    refine wa_aloadV_n (pc := 0) (y := mJ4_putVal) dJ4_putVal_0 rfl (by first | exact rf_s _ | exact rf_n | exact rf_q _) ?_
    refine wf_get (k := 12) (l := 12) 0 dJ4_putVal_1 (by assumption) rfl q207 (Or.inl rfl) (Nat.le_of_ble_eq_true rfl) (Nat.le_of_ble_eq_true rfl) (by (repeat (first | exact updF_self _ _ _ _ | (apply updF_i; · decide) | (apply updF_a; · first | assumption | (apply Ne.symm; assumption) | omega) | (apply newF_a; · first | assumption | (apply Ne.symm; assumption) | omega) | exact newL_self (by rfl) | exact newF_self (by rfl) | (apply cpyF_a; · first | assumption | (apply Ne.symm; assumption) | omega))) <;> first | assumption | rfl) ?_
    refine wa_dup (pc := 4) (y := mJ4_putVal) dJ4_putVal_4 (by first | rfl | exact rf_cat _) ?_
    refine wa_astoreV (pc := 5) (y := mJ4_putVal) dJ4_putVal_5 (Nat.le_of_ble_eq_true rfl) (by first | rfl | (simp [okst, rf_cat] <;> assumption)) (by first | exact rf_s _ | exact rf_n | exact rf_q _) ?_
    simp only [List.set_cons_zero, List.set_cons_succ]
    refine wa_ifnull (pc := 7) (y := mJ4_putVal) dJ4_putVal_7 ?_
    refine wa_aloadV (pc := 10) (y := mJ4_putVal) dJ4_putVal_10 rfl (by first | exact rf_s _ | exact rf_n | exact rf_q _) ?_
    refine wf_alen dJ4_putVal_12 (by assumption) (by decide) ?_
    refine wa_dup (pc := 13) (y := mJ4_putVal) dJ4_putVal_13 (by first | rfl | exact rf_cat _) ?_
    refine wa_istore (pc := 14) (y := mJ4_putVal) dJ4_putVal_14 (Nat.le_of_ble_eq_true rfl) (by first | rfl | (simp [okst, rf_cat] <;> assumption)) ?_
    simp only [List.set_cons_zero, List.set_cons_succ]
    refine wa_if_ne (pc := 16) 29 dJ4_putVal_16 rfl (fun hb16 => ?_) (fun hb16 => absurd ((iN_eq0 (by omega)).mp hb16) (by omega))
    exact pv_29 hd hG (⟨m1, m5, m10, m11, mlo, mn, mN, minj, mv, t1, ⟨tI, tB⟩, hk, t4⟩ : MapC h F m tb k ns B) m2 m3 t5 hl9 K rfl rfl rfl rfl
theorem s_J4_put (hd : 11 ≤ d) (hG : StG G) (M : MapR h F m ns) (t : TK h F m k) (hl9 : ns.length ≤ 95) (K : KeyAt h F q x) :
    MA G d mJ4_put [.ref m, .ref q, .ref vv] (sF h F) (PtQ m h F ns k x vv) := by
  have m1 := M.1
  change WA G d mJ4_put 0 [.ref m, .ref q, .ref vv] [] _ _
  refine wa_aloadV_n (pc := 0) (y := mJ4_put) dJ4_put_0 rfl (by first | exact rf_s _ | exact rf_n | exact rf_q _) ?_
  refine wa_aloadV_n (pc := 1) (y := mJ4_put) dJ4_put_1 rfl (by first | exact rf_s _ | exact rf_n | exact rf_q _) ?_
  refine wa_callS (pc := 2) (s_J4_hash (d := d - 1) (by omega) K) dJ4_put_2 okJ4_hash q455 q456 rfl rfl (Nat.le_of_ble_eq_true rfl) (Nat.le_of_ble_eq_true rfl) (by omega) ?_
  rintro _ _ - - ⟨rfl, rfl⟩
  refine aft_v (pc2 := 5) ?_ rfl
  refine wa_aloadV_n (pc := 5) (y := mJ4_put) dJ4_put_5 rfl (by first | exact rf_s _ | exact rf_n | exact rf_q _) ?_
  refine wa_aloadV_n (pc := 6) (y := mJ4_put) dJ4_put_6 rfl (by first | exact rf_s _ | exact rf_n | exact rf_q _) ?_
  refine wa_iconst (pc := 7) (y := mJ4_put) (Int32.ofNat 0) dJ4_put_7 rfl ?_
  refine wa_iconst (pc := 8) (y := mJ4_put) (Int32.ofNat 1) dJ4_put_8 rfl ?_
  refine wa_callW (k := 12) (pc := 9) (owner := "java/util/HashMap") (s_J4_putVal (d := d - 1) (by omega) hG M t hl9 K) dJ4_put_9 okJ4_putVal rfl q1582 q1584 (hDc_code q1583 q1586) (by decide) q1585 q1583 (sF_at (by assumption)) rfl rfl rfl rfl (Nat.le_of_ble_eq_true rfl) (Nat.le_of_ble_eq_true rfl) (by omega) ?_
  rintro r _ - - ⟨h2, F2, ns2, k2, rfl, z1, z2, z3, z4⟩
  obtain ⟨o, rfl⟩ : ∃ o : Option Nat, r = .inl (some (va_rf o)) := by rcases z4 with ⟨v0, -, e, -⟩ | ⟨-, e, -⟩; exact ⟨some v0, e⟩; exact ⟨none, e⟩
  refine aft_v (pc2 := 12) ?_ rfl
  refine wa_areturnV (pc := 12) (y := mJ4_put) (.object "java/lang/Object") dJ4_put_12 rfl (Or.inl ⟨_, rfl⟩) (by first | exact rf_s _ | exact rf_n | exact rf_q _) ⟨h2, F2, ns2, k2, rfl, z1, z2, z3, z4⟩
end PUT5
