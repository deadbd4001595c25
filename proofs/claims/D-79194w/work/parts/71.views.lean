/-! ===== maps: frames, making one, remove, views ===== -/
section VWS
variable {G : GG} {d n : Nat} {h h2 : AH} {F F2 F3 : Nat → Nat → Value} {l m p q x k tb b c s i : Nat} {ns : List Nat} {P : Nat → Prop}
theorem MapR.gen (M : MapR h F m ns) (e : Ext h h2) (hz : ∀ z, z ∈ ns → ∀ j, F2 z j = F z j) (ht : ∀ tb, F m 0 = .ref tb → ∀ j, F2 tb j = F tb j) (hK : ∀ q j, Is h q 4 2 → F2 q j = F q j) (hm : ∀ j, j ≠ 1 → j ≠ 6 → j ≠ 7 → F2 m j = F m j) (hv : VwR h2 F2 m 1 19 ∧ VwR h2 F2 m 6 15 ∧ VwR h2 F2 m 7 17) : MapR h2 F2 m ns := by
  obtain ⟨m1, m2, m3, m5, m10, m11, mlo, mn, mN, minj, mv, mt⟩ := M
  have gk : ∀ z, z ∈ ns → kF F2 z = kF F z := fun z h9 => kF_congr (hz z h9 0)
  refine ⟨m1.ext e, (hm 2 (by decide) (by decide) (by decide)).trans m2, m3.imp fun z h9 => (hm 3 (by decide) (by decide) (by decide)).trans h9, (hm 5 (by decide) (by decide) (by decide)).trans m5, (hm 10 (by decide) (by decide) (by decide)).trans m10, (hm 11 (by decide) (by decide) (by decide)).trans m11, mlo.congr (hm 8 (by decide) (by decide) (by decide)) (hm 9 (by decide) (by decide) (by decide)) (fun z h9 => hz z h9 4) (fun z h9 => hz z h9 5), mn, fun z h9 => (mN z h9).ext e (fun j _ => hz z h9 j) hK, fun z w h8 h9 e9 => minj z w h8 h9 (by rw [← gk z h8, ← gk w h9]; exact e9), hv, ?_⟩
  rcases mt with ⟨t1, t2, t0, t3, t4⟩ | ⟨tb, k, B, t1, ⟨tI, tB⟩, t3, t4, t5⟩
  · exact Or.inl ⟨(hm 0 (by decide) (by decide) (by decide)).trans t1, t2, t0, (hm 4 (by decide) (by decide) (by decide)).trans t3, t4⟩
  · refine Or.inr ⟨tb, k, B, (hm 0 (by decide) (by decide) (by decide)).trans t1, ⟨tI.ext e, fun b hb => ?_⟩, t3, (hm 4 (by decide) (by decide) (by decide)).trans t4, t5⟩
    obtain ⟨b1, b2, b3, b4⟩ := tB b hb
    exact ⟨(ht tb t1 b).trans b1, b2.congr e (fun z j h9 _ => hz z ((b4 z).mp h9).1 j), b3, fun z => (b4 z).trans ⟨fun h9 => ⟨h9.1, by rw [gk z h9.1]; exact h9.2⟩, fun h9 => ⟨h9.1, by rw [← gk z h9.1]; exact h9.2⟩⟩⟩
theorem VwR.gen {k9 : Nat} (V : VwR h F m i k9) (e : Ext h h2) (hm : F2 m i = F m i) (hv : ∀ v j, F m i = .ref v → Is h v k9 2 → F2 v j = F v j) : VwR h2 F2 m i k9 := V.ext e hm fun v9 j hv9 => by
  rcases V with V | ⟨v8, q1, q2, -⟩
  · rw [V] at hv9; cases hv9
  · rw [q1] at hv9; cases hv9; exact hv v9 j q1 q2
/-- changes elsewhere don't matter to a map -/
theorem MapR.fr (M : MapR h F m ns) (f : Fr P h F h2 F2) (hP : ∀ b, MFp F m ns b → ¬ P b) (hK : ∀ q, Is h q 4 2 → ¬ P q) : MapR h2 F2 m ns ∧ es F2 ns = es F ns ∧ (∀ k, TK h F m k → TK h2 F2 m k) ∧ (∀ b, MFp F2 m ns b ↔ MFp F m ns b) ∧ ∀ j, F2 m j = F m j := by
  have g : ∀ b, MFp F m ns b → ∀ j, F2 b j = F b j := fun b hb j => f.at (MFp.lt M hb) (hP b hb) j
  have gm : ∀ j, F2 m j = F m j := g m (Or.inl rfl)
  have gz : ∀ z, z ∈ ns → ∀ j, F2 z j = F z j := fun z hz => g z (Or.inr (Or.inl hz))
  have M9 := M
  obtain ⟨m1, m2, m3, m5, m10, m11, mlo, mn, mN, minj, mv, mt⟩ := M
  refine ⟨M9.gen f.1 gz (fun tb e => g tb (Or.inr (Or.inr (Or.inl e)))) (fun q j hq => f.at hq.lt (hK q hq) j) (fun j _ _ _ => gm j) ⟨mv.1.gen f.1 (gm 1) fun v j e _ => g v (Or.inr (Or.inr (Or.inr (Or.inl e)))) j, mv.2.1.gen f.1 (gm 6) fun v j e _ => g v (Or.inr (Or.inr (Or.inr (Or.inr (Or.inl e))))) j, mv.2.2.gen f.1 (gm 7) fun v j e _ => g v (Or.inr (Or.inr (Or.inr (Or.inr (Or.inr e))))) j⟩, es_congr fun p hp => ⟨gz p hp 0, gz p hp 2⟩, fun k t => t.imp (fun ⟨e1, e2⟩ => ⟨(gm 0).trans e1, e2⟩) (fun ⟨tb, e1, e2⟩ => ⟨tb, (gm 0).trans e1, e2.ext f.1⟩), fun b => ?_, gm⟩
  unfold MFp
  rw [gm 0, gm 1, gm 6, gm 7]
theorem s_J3_init {h0 : AH} (hd : 1 ≤ d) : MA G d mJ3_init [.ref m] h0 (fun r h' => r = .inl none ∧ h' = h0) := by
  change WA G d mJ3_init 0 [.ref m] [] _ _
  refine wa_aloadV_n (pc := 0) (y := mJ3_init) dJ3_init_0 rfl (by first | exact rf_s _ | exact rf_n | exact rf_q _) ?_
  refine wa_objInit (pc := 1) (y := mJ3_init) dJ3_init_1 q199 q151 q152 (Nat.le_of_ble_eq_true rfl) (by omega) ?_
  refine wa_return (pc := 4) (y := mJ3_init) dJ3_init_4 rfl ⟨rfl, rfl⟩
theorem s_J4_init (hd : 2 ≤ d) (hm : Is h m 12 12) : MA G d mJ4_init [.ref m] (sF h F) (fun r h' => r = .inl none ∧ h' = sF h (updF F m 5 (.float 1061158912))) := by
  change WA G d mJ4_init 0 [.ref m] [] _ _
  refine wa_aloadV_n (pc := 0) (y := mJ4_init) dJ4_init_0 rfl (by first | exact rf_s _ | exact rf_n | exact rf_q _) ?_
  refine wa_callI (pc := 1) (s_J3_init (d := d - 1) (by omega)) dJ4_init_1 okJ3_init rfl rfl rfl q196 q197 rfl rfl (Nat.le_of_ble_eq_true rfl) (Nat.le_of_ble_eq_true rfl) (by omega) ?_
  rintro _ _ - - ⟨rfl, rfl⟩
  refine aft_0 (pc2 := 4) ?_ rfl
  refine wa_aloadV_n (pc := 4) (y := mJ4_init) dJ4_init_4 rfl (by first | exact rf_s _ | exact rf_n | exact rf_q _) ?_
  refine wa_ldcf (pc := 5) (y := mJ4_init) dJ4_init_5 q200 ?_
  refine wf_putF (k := 12) (l := 12) 5 .float dJ4_init_7 (by assumption) rfl q216 (Or.inl rfl) (Nat.le_of_ble_eq_true rfl) rfl rfl rfl (by decide +kernel) rfl rfl ?_
  refine wa_return (pc := 10) (y := mJ4_init) dJ4_init_10 rfl ⟨rfl, rfl⟩
theorem s_J5_init (hd : 3 ≤ d) (hm : Is h m 12 12) : MA G d mJ5_init [.ref m] (sF h F) (fun r h' => r = .inl none ∧ h' = sF h (updF (updF (updF F m 5 (.float 1061158912)) m 11 (.int 0)) m 10 (.int 0))) := by
  change WA G d mJ5_init 0 [.ref m] [] _ _
  refine wa_aloadV_n (pc := 0) (y := mJ5_init) dJ5_init_0 rfl (by first | exact rf_s _ | exact rf_n | exact rf_q _) ?_
  refine wa_callI (pc := 1) (s_J4_init (d := d - 1) (by omega) hm) dJ5_init_1 okJ4_init rfl rfl rfl q193 q194 rfl rfl (Nat.le_of_ble_eq_true rfl) (Nat.le_of_ble_eq_true rfl) (by omega) ?_
  rintro _ _ - - ⟨rfl, rfl⟩
  refine aft_0 (pc2 := 4) ?_ rfl
  refine wa_aloadV_n (pc := 4) (y := mJ5_init) dJ5_init_4 rfl (by first | exact rf_s _ | exact rf_n | exact rf_q _) ?_
  refine wa_iconst (pc := 5) (y := mJ5_init) (Int32.ofNat 0) dJ5_init_5 rfl ?_
  refine wf_put (k := 12) (l := 12) 11 .int dJ5_init_6 (by assumption) rfl q206 (Or.inl rfl) (Nat.le_of_ble_eq_true rfl) rfl (by decide +kernel) rfl rfl ?_
  refine wa_aloadV_n (pc := 9) (y := mJ5_init) dJ5_init_9 rfl (by first | exact rf_s _ | exact rf_n | exact rf_q _) ?_
  refine wa_iconst (pc := 10) (y := mJ5_init) (Int32.ofNat 0) dJ5_init_10 rfl ?_
  refine wf_putF (k := 12) (l := 12) 10 .boolean dJ5_init_11 (by assumption) rfl q205 (Or.inl rfl) (Nat.le_of_ble_eq_true rfl) rfl rfl rfl (by decide +kernel) (by first | rfl | exact bI_nar _) (by first | rfl | exact bI_fit _) ?_
  refine wa_return (pc := 14) (y := mJ5_init) dJ5_init_14 rfl ⟨rfl, rfl⟩
/-- a new map holds nothing -/
theorem MapR.new (hm : Is h m 12 12) (h0 : F m 0 = .null) (h1 : F m 1 = .null) (h2 : F m 2 = .int 0) (h3 : F m 3 = .int 0) (h4 : F m 4 = .int 0) (h5 : F m 5 = .float 1061158912) (h6 : F m 6 = .null) (h7 : F m 7 = .null) (h8 : F m 8 = .null) (h9 : F m 9 = .null) (h10 : F m 10 = .int 0) (h11 : F m 11 = .int 0) : MapR h F m [] ∧ TK h F m 0 :=
  ⟨⟨hm, h2, ⟨0, h3⟩, h5, h10, h11, ⟨h8, h9, DL.nil⟩, (by simp), fun p hp => (by cases hp), fun p q hp => (by cases hp), ⟨Or.inl h1, Or.inl h6, Or.inl h7⟩, Or.inl ⟨h0, rfl, 0, h4, Or.inl rfl⟩⟩, Or.inl ⟨h0, rfl⟩⟩
theorem s_J4_remove (hd : 9 ≤ d) (hG : StG G) (M : MapR h F m ns) (t : TK h F m k) (hl9 : ns.length ≤ 96) (K : KeyAt h F q x) :
    MA G d mJ4_remove [.ref m, .ref q] (sF h F) (fun r h' => (∀ e, e ∈ es F ns → e.1 ≠ x) ∧ r = .inl (some .null) ∧ h' = sF h F ∨
      ∃ (A : List (Nat × Nat)) (v : Nat) (B : List (Nat × Nat)) (h2 : AH) (F2 : Nat → Nat → Value) (ns2 : List Nat), es F ns = A ++ (x, v) :: B ∧ r = .inl (some (.ref v)) ∧ h' = sF h2 F2 ∧ MapR h2 F2 m ns2 ∧ TK h2 F2 m k ∧ es F2 ns2 = A ++ B ∧ MStep 96 576 m h F ns k h2 F2 ns2 k) := by
  have m1 := M.1
  have mN := M.2.2.2.2.2.2.2.2.1
  change WA G d mJ4_remove 0 [.ref m, .ref q, .retAddr 0] [] _ _
  refine wa_aloadV_n (pc := 0) (y := mJ4_remove) dJ4_remove_0 rfl (by first | exact rf_s _ | exact rf_n | exact rf_q _) ?_
  refine wa_aloadV_n (pc := 1) (y := mJ4_remove) dJ4_remove_1 rfl (by first | exact rf_s _ | exact rf_n | exact rf_q _) ?_
  refine wa_callS (pc := 2) (s_J4_hash (d := d - 1) (by omega) K) dJ4_remove_2 okJ4_hash q455 q456 rfl rfl (Nat.le_of_ble_eq_true rfl) (Nat.le_of_ble_eq_true rfl) (by omega) ?_
  rintro _ _ - - ⟨rfl, rfl⟩
  refine aft_v (pc2 := 5) ?_ rfl
  refine wa_aloadV_n (pc := 5) (y := mJ4_remove) dJ4_remove_5 rfl (by first | exact rf_s _ | exact rf_n | exact rf_q _) ?_
  refine wa_null (pc := 6) (y := mJ4_remove) dJ4_remove_6 ?_
  refine wa_iconst (pc := 7) (y := mJ4_remove) (Int32.ofNat 0) dJ4_remove_7 rfl ?_
  refine wa_iconst (pc := 8) (y := mJ4_remove) (Int32.ofNat 1) dJ4_remove_8 rfl ?_
  refine wa_callW (k := 12) (pc := 9) (owner := "java/util/HashMap") (s_J4_removeNode (d := d - 1) (mv := true) (by omega) hG M t hl9 K) dJ4_remove_9 okJ4_removeNode rfl q2163 q3101 (hDc_code q1919 q1920) (by decide) q3102 q1919 (sF_at (by assumption)) rfl rfl rfl rfl (Nat.le_of_ble_eq_true rfl) (Nat.le_of_ble_eq_true rfl) (by omega) ?_
  rintro r h' - - Z
  obtain ⟨o, rfl⟩ : ∃ o : Option Nat, r = .inl (some (va_rf o)) := by rcases Z with ⟨-, e, -⟩ | ⟨a, p, b, h2, F2, ns2, -, -, e, -⟩; exact ⟨none, e⟩; exact ⟨some p, e⟩
  refine aft_v (pc2 := 12) ?_ rfl
  skip
  rcases Z with ⟨z1, z2, rfl⟩ | ⟨a, p, b, h2, F2, ns2, z1, z2, z3, rfl, z4, z5, z6, z7, z8, ⟨z9, z10⟩, -⟩
  · cases rf_inj (Option.some.inj (Sum.inl.inj z2) : va_rf o = va_rf none)
    refine wa_dup (pc := 12) (y := mJ4_remove) dJ4_remove_12 (by first | rfl | exact rf_cat _) ?_
    refine wa_astoreV_n (pc := 13) (y := mJ4_remove) dJ4_remove_13 (Nat.le_of_ble_eq_true rfl) (by first | rfl | (simp [okst, rf_cat] <;> assumption)) (by first | exact rf_s _ | exact rf_n | exact rf_q _) ?_
    change WA _ _ _ _ (List.set _ 2 _) _ _ _
    simp only [List.set_cons_zero, List.set_cons_succ]
    refine wa_ifnonnullN (pc := 14) (y := mJ4_remove) dJ4_remove_14 ?_
    refine wa_null (pc := 17) (y := mJ4_remove) dJ4_remove_17 ?_
    refine wa_goto (pc := 18) (y := mJ4_remove) 25 dJ4_remove_18 rfl ?_
    refine wa_areturnV (pc := 25) (y := mJ4_remove) (.object "java/lang/Object") dJ4_remove_25 rfl (Or.inl ⟨_, rfl⟩) (by first | exact rf_s _ | exact rf_n | exact rf_q _) (Or.inl ⟨fun e he => ?_, rfl, rfl⟩)
    obtain ⟨z, hz, rfl⟩ := List.mem_map.mp he
    exact z1 z hz
  · cases rf_inj (Option.some.inj (Sum.inl.inj z3) : va_rf o = va_rf (some p))
    have hp2 : F2 p 2 = .ref (vF F p) := z10.trans (mN p (by rw [z1]; simp)).2.2
    refine wa_dup (pc := 12) (y := mJ4_remove) dJ4_remove_12 (by first | rfl | exact rf_cat _) ?_
    refine wa_astoreV_n (pc := 13) (y := mJ4_remove) dJ4_remove_13 (Nat.le_of_ble_eq_true rfl) (by first | rfl | (simp [okst, rf_cat] <;> assumption)) (by first | exact rf_s _ | exact rf_n | exact rf_q _) ?_
    change WA _ _ _ _ (List.set _ 2 _) _ _ _
    simp only [List.set_cons_zero, List.set_cons_succ]
    refine wa_ifnonnull (pc := 14) (y := mJ4_remove) 21 dJ4_remove_14 rfl ?_
    refine wa_aloadV_n (pc := 21) (y := mJ4_remove) dJ4_remove_21 rfl (by first | exact rf_s _ | exact rf_n | exact rf_q _) ?_
    refine wn_get 2 dJ4_remove_22 (by assumption) q1331 (Or.inl rfl) (Nat.le_of_ble_eq_true rfl) (by (repeat (first | exact updF_self _ _ _ _ | (apply updF_i; · decide) | (apply updF_a; · first | assumption | (apply Ne.symm; assumption) | omega) | (apply newF_a; · first | assumption | (apply Ne.symm; assumption) | omega) | exact newL_self (by rfl) | exact newF_self (by rfl) | (apply cpyF_a; · first | assumption | (apply Ne.symm; assumption) | omega))) <;> first | assumption | rfl) ?_
    refine wa_areturnV (pc := 25) (y := mJ4_remove) (.object "java/lang/Object") dJ4_remove_25 rfl (Or.inl ⟨_, rfl⟩) (by first | exact rf_s _ | exact rf_n | exact rf_q _) (Or.inr ⟨es F a, vF F p, es F b, h2, F2, ns2, by rw [z1, ← z2]; simp [es], rfl, rfl, z4, z5, z6, z7⟩)
end VWS
