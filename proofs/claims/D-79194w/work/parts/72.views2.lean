/-! ===== the views of a map ===== -/
section VWS2
variable {G : GG} {d n : Nat} {h h2 : AH} {F F2 F3 : Nat → Nat → Value} {l m p q x k k9 tb b c s i v : Nat} {ns : List Nat} {P : Nat → Prop}
def VwQ (m i k9 : Nat) (h : AH) (F : Nat → Nat → Value) (ns : List Nat) (k : Nat) (r : RR) (h' : AH) : Prop :=
  ∃ (h2 : AH) (F2 : Nat → Nat → Value) (v : Nat), r = .inl (some (.ref v)) ∧ h' = sF h2 F2 ∧ MapR h2 F2 m ns ∧ TK h2 F2 m k ∧ es F2 ns = es F ns ∧ MStep 1 2 m h F ns k h2 F2 ns k ∧ (Is h2 v k9 2 ∧ F2 v 0 = .int 0 ∧ F2 v 1 = .ref m ∧ F2 m i = .ref v) ∧ ∀ j, j ≠ i → F2 m j = F m j
theorem VwQ.same {V : VwR h F m i k9} (M : MapR h F m ns) (t : TK h F m k) (e : F m i = .ref v) : VwQ m i k9 h F ns k (.inl (some (.ref v))) (sF h F) := by
  rcases V with V | ⟨v8, q1, q2, q3, q4⟩
  · rw [V] at e; cases e
  · rw [q1] at e; cases e
    exact ⟨h, F, v, rfl, rfl, M, t, rfl, MStep.refl (M.k8 t), ⟨q2, q3, q4, q1⟩, fun _ _ => rfl⟩
theorem VwQ.made {g : Nat → Value} (M : MapR h F m ns) (t : TK h F m k) (e : F m i = .null) (hi : i = 6 ∧ k9 = 15 ∨ i = 7 ∧ k9 = 17 ∨ i = 1 ∧ k9 = 19) : VwQ m i k9 h F ns k (.inl (some (.ref h.1))) (sF (hNew h k9 2) (updF (updF (updF (newF F h.1 g) h.1 1 (.ref m)) h.1 0 (.int 0)) m i (.ref h.1))) := by
  have M9 := M
  obtain ⟨m1, m2, m3, m5, m10, m11, mlo, mn, mN, minj, mv, mt⟩ := M
  have hml := m1.lt
  have hmn : m ≠ h.1 := by omega
  obtain ⟨F2, hF2⟩ : ∃ F2, F2 = updF (updF (updF (newF F h.1 g) h.1 1 (.ref m)) h.1 0 (.int 0)) m i (.ref h.1) := ⟨_, rfl⟩
  rw [← hF2]
  have go : ∀ b j, b < h.1 → b ≠ m → F2 b j = F b j := fun b j hb hbm => by rw [hF2]; exact (updF_a hbm rfl).trans ((updF_a (by omega) rfl).trans ((updF_a (by omega) rfl).trans (newF_a (by omega) rfl)))
  have gm : ∀ j, j ≠ i → F2 m j = F m j := fun j hj => by rw [hF2]; exact (updF_i hj rfl).trans ((updF_a hmn rfl).trans ((updF_a hmn rfl).trans (newF_a hmn rfl)))
  have gi : F2 m i = .ref h.1 := by rw [hF2, updF_self]
  have n0 : F2 h.1 0 = .int 0 := by rw [hF2]; exact (updF_a (Ne.symm hmn) rfl).trans (updF_self _ _ _ _)
  have n1 : F2 h.1 1 = .ref m := by rw [hF2]; exact (updF_a (Ne.symm hmn) rfl).trans ((updF_i (by decide) rfl).trans (updF_self _ _ _ _))
  have hb2 : ∀ b, MFp F m ns b → b ≠ m → ∀ j, F2 b j = F b j := fun b hb hbm j => go b j (MFp.lt M9 hb) hbm
  have hne : ∀ i9 v9 k8, F m i9 = .ref v9 → Is h v9 k8 2 → k8 ≠ 12 → ∀ j, F2 v9 j = F v9 j := fun i9 v9 k8 _ q hk j => go v9 j q.lt (q.ne m1 hk)
  have vw : ∀ i9 k8, VwR h F m i9 k8 → k8 ≠ 12 → i9 ≠ i → VwR (hNew h k9 2) F2 m i9 k8 := fun i9 k8 V hk hn => V.gen Ext.new (gm i9 hn) fun v9 j e9 q => hne i9 v9 k8 e9 q hk j
  have vi : VwR (hNew h k9 2) F2 m i k9 := Or.inr ⟨h.1, gi, Is.self, n0, n1⟩
  have hvv : VwR (hNew h k9 2) F2 m 1 19 ∧ VwR (hNew h k9 2) F2 m 6 15 ∧ VwR (hNew h k9 2) F2 m 7 17 := by
    rcases hi with ⟨rfl, rfl⟩ | ⟨rfl, rfl⟩ | ⟨rfl, rfl⟩
    · exact ⟨vw 1 19 mv.1 (by decide) (by decide), vi, vw 7 17 mv.2.2 (by decide) (by decide)⟩
    · exact ⟨vw 1 19 mv.1 (by decide) (by decide), vw 6 15 mv.2.1 (by decide) (by decide), vi⟩
    · exact ⟨vi, vw 6 15 mv.2.1 (by decide) (by decide), vw 7 17 mv.2.2 (by decide) (by decide)⟩
  have hzm : ∀ z, z ∈ ns → z ≠ m := fun z hz => (mN z hz).1.ne m1 (by decide) (by decide)
  have hk8 := M9.k8 t
  have hi3 : i = 6 ∨ i = 7 ∨ i = 1 := hi.imp (·.1) (·.imp (·.1) (·.1))
  have hi0 : 0 ≠ i := by rcases hi3 with e | e | e <;> rw [e] <;> decide
  refine ⟨hNew h k9 2, F2, h.1, rfl, rfl, M9.gen Ext.new (fun z hz j => go z j (mN z hz).1.lt (hzm z hz)) (fun tb e9 j => ?_) (fun q j hq => go q j hq.lt (hq.ne m1 (by decide))) (fun j h1 h6 h7 => gm j fun e => hi3.elim (fun h => h6 (e.trans h)) (fun h => h.elim (fun h => h7 (e.trans h)) (fun h => h1 (e.trans h)))) hvv, ?_, es_congr fun p hp => ⟨go p 0 (mN p hp).1.lt (hzm p hp), go p 2 (mN p hp).1.lt (hzm p hp)⟩, ⟨⟨Ext.new, fun b hb hP => ?_⟩, by omega, ⟨by rw [hNew_1]; omega, by rw [hNew_2]; omega⟩, fun b hb => ?_⟩, ⟨Is.self, n0, n1, gi⟩, gm⟩
  · have h9 : MFp F m ns tb := Or.inr (Or.inr (Or.inl e9))
    refine hb2 tb h9 (fun e8 => ?_) j
    rcases mt with ⟨t1, -⟩ | ⟨tb2, k2, B, t1, ⟨tI, tB⟩, t3, t4, t5⟩
    · rw [t1] at e9; cases e9
    · rw [t1] at e9; cases e9; exact tI.ne m1 (by decide) e8
  · exact t.imp (fun ⟨e1, e2⟩ => ⟨(gm 0 hi0).trans e1, e2⟩) (fun ⟨tb, e1, e2⟩ => ⟨tb, (gm 0 hi0).trans e1, e2.new⟩)
  · funext j
    exact go b j hb fun e => hP (Or.inl e)
  · unfold MFp at hb ⊢
    rw [gm 0 hi0] at hb
    rcases hi with ⟨rfl, rfl⟩ | ⟨rfl, rfl⟩ | ⟨rfl, rfl⟩
    · rw [gm 1 (by decide), gm 7 (by decide), gi] at hb
      rcases hb with h | h | h | h | h | h
      · exact Or.inl (Or.inl h)
      · exact Or.inl (Or.inr (Or.inl h))
      · exact Or.inl (Or.inr (Or.inr (Or.inl h)))
      · exact Or.inl (Or.inr (Or.inr (Or.inr (Or.inl h))))
      · cases h; exact Or.inr (Nat.le_refl _)
      · exact Or.inl (Or.inr (Or.inr (Or.inr (Or.inr (Or.inr h)))))
    · rw [gm 1 (by decide), gm 6 (by decide), gi] at hb
      rcases hb with h | h | h | h | h | h
      · exact Or.inl (Or.inl h)
      · exact Or.inl (Or.inr (Or.inl h))
      · exact Or.inl (Or.inr (Or.inr (Or.inl h)))
      · exact Or.inl (Or.inr (Or.inr (Or.inr (Or.inl h))))
      · exact Or.inl (Or.inr (Or.inr (Or.inr (Or.inr (Or.inl h)))))
      · cases h; exact Or.inr (Nat.le_refl _)
    · rw [gm 6 (by decide), gm 7 (by decide), gi] at hb
      rcases hb with h | h | h | h | h | h
      · exact Or.inl (Or.inl h)
      · exact Or.inl (Or.inr (Or.inl h))
      · exact Or.inl (Or.inr (Or.inr (Or.inl h)))
      · cases h; exact Or.inr (Nat.le_refl _)
      · exact Or.inl (Or.inr (Or.inr (Or.inr (Or.inr (Or.inl h)))))
      · exact Or.inl (Or.inr (Or.inr (Or.inr (Or.inr (Or.inr h)))))
theorem s_J0_init {h0 : AH} (hd : 1 ≤ d) : MA G d mJ0_init [.ref m] h0 (fun r h' => r = .inl none ∧ h' = h0) := by
  change WA G d mJ0_init 0 [.ref m] [] _ _
  refine wa_aloadV_n (pc := 0) (y := mJ0_init) dJ0_init_0 rfl (by first | exact rf_s _ | exact rf_n | exact rf_q _) ?_
  refine wa_objInit (pc := 1) (y := mJ0_init) dJ0_init_1 q170 q151 q152 (Nat.le_of_ble_eq_true rfl) (by omega) ?_
  refine wa_return (pc := 4) (y := mJ0_init) dJ0_init_4 rfl ⟨rfl, rfl⟩
theorem s_J27_init {h0 : AH} (hd : 2 ≤ d) : MA G d mJ27_init [.ref m] h0 (fun r h' => r = .inl none ∧ h' = h0) := by
  change WA G d mJ27_init 0 [.ref m] [] _ _
  refine wa_aloadV_n (pc := 0) (y := mJ27_init) dJ27_init_0 rfl (by first | exact rf_s _ | exact rf_n | exact rf_q _) ?_
  refine wa_callI (pc := 1) (s_J0_init (d := d - 1) (by omega)) dJ27_init_1 okJ0_init rfl rfl rfl q1396 q168 rfl rfl (Nat.le_of_ble_eq_true rfl) (Nat.le_of_ble_eq_true rfl) (by omega) ?_
  rintro _ _ - - ⟨rfl, rfl⟩
  refine aft_0 (pc2 := 4) ?_ rfl
  refine wa_return (pc := 4) (y := mJ27_init) dJ27_init_4 rfl ⟨rfl, rfl⟩
theorem s_J36_init (hd : 3 ≤ d) (hv : Is h v 15 2) : MA G d mJ36_init [.ref v, .ref m, .int 0] (sF h F) (fun r h' => r = .inl none ∧ h' = sF h (updF (updF F v 1 (.ref m)) v 0 (.int 0))) := by
  change WA G d mJ36_init 0 [.ref v, .ref m, .int 0] [] _ _
  refine wa_aloadV_n (pc := 0) (y := mJ36_init) dJ36_init_0 rfl (by first | exact rf_s _ | exact rf_n | exact rf_q _) ?_
  refine wa_aloadV_n (pc := 1) (y := mJ36_init) dJ36_init_1 rfl (by first | exact rf_s _ | exact rf_n | exact rf_q _) ?_
  refine wf_putF (k := 15) (l := 2) 1 (.object "java/util/LinkedHashMap") dJ36_init_2 (by assumption) rfl q1860 (Or.inl rfl) (Nat.le_of_ble_eq_true rfl) rfl rfl rfl (by decide +kernel) (by first | rfl | exact rf_nar _ | exact rf_nar2 _) (by first | rfl | exact rf_fit _ | exact rf_fit2 _) ?_
  refine wa_aloadV_n (pc := 5) (y := mJ36_init) dJ36_init_5 rfl (by first | exact rf_s _ | exact rf_n | exact rf_q _) ?_
  refine wa_callI (pc := 6) (s_J27_init (d := d - 1) (by omega)) dJ36_init_6 okJ27_init rfl rfl rfl q1858 q1394 rfl rfl (Nat.le_of_ble_eq_true rfl) (Nat.le_of_ble_eq_true rfl) (by omega) ?_
  rintro _ _ - - ⟨rfl, rfl⟩
  refine aft_0 (pc2 := 9) ?_ rfl
  refine wa_aloadV_n (pc := 9) (y := mJ36_init) dJ36_init_9 rfl (by first | exact rf_s _ | exact rf_n | exact rf_q _) ?_
  refine wa_iload_n (pc := 10) (y := mJ36_init) dJ36_init_10 rfl ?_
  refine wf_putF (k := 15) (l := 2) 0 .boolean dJ36_init_11 (by assumption) rfl q1859 (Or.inl rfl) (Nat.le_of_ble_eq_true rfl) rfl rfl rfl (by decide +kernel) (by first | rfl | exact bI_nar _) (by first | rfl | exact bI_fit _) ?_
  refine wa_return (pc := 14) (y := mJ36_init) dJ36_init_14 rfl ⟨rfl, rfl⟩
theorem s_J5_sequencedKeySet (hd : 4 ≤ d) (M : MapR h F m ns) (t : TK h F m k) : MA G d mJ5_sequencedKeySet [.ref m] (sF h F) (VwQ m 6 15 h F ns k) := by
  have m1 := M.1
  have mv := M.2.2.2.2.2.2.2.2.2.2.1
  have hmn : m ≠ h.1 := Nat.ne_of_lt m1.lt
  change WA G d mJ5_sequencedKeySet 0 [.ref m, .retAddr 0, .retAddr 0] [] _ _
  rcases mv.2.1 with V | ⟨v, q1, q2, q3, q4⟩
  · refine wa_aloadV_n (pc := 0) (y := mJ5_sequencedKeySet) dJ5_sequencedKeySet_0 rfl (by first | exact rf_s _ | exact rf_n | exact rf_q _) ?_
    refine wf_get (k := 12) (l := 12) 6 dJ5_sequencedKeySet_1 (by assumption) rfl q217 (Or.inr q218) (Nat.le_of_ble_eq_true rfl) (Nat.le_of_ble_eq_true rfl) (by (repeat (first | exact updF_self _ _ _ _ | (apply updF_i; · decide) | (apply updF_a; · first | assumption | (apply Ne.symm; assumption) | omega) | (apply newF_a; · first | assumption | (apply Ne.symm; assumption) | omega) | exact newL_self (by rfl) | exact newF_self (by rfl) | (apply cpyF_a; · first | assumption | (apply Ne.symm; assumption) | omega))) <;> first | assumption | rfl) ?_
    refine wa_astoreV_n (pc := 4) (y := mJ5_sequencedKeySet) dJ5_sequencedKeySet_4 (Nat.le_of_ble_eq_true rfl) (by first | rfl | (simp [okst, rf_cat] <;> assumption)) (by first | exact rf_s _ | exact rf_n | exact rf_q _) ?_
    change WA _ _ _ _ (List.set _ 1 _) _ _ _
    simp only [List.set_cons_zero, List.set_cons_succ]
    refine wa_aloadV_n (pc := 5) (y := mJ5_sequencedKeySet) dJ5_sequencedKeySet_5 rfl (by first | exact rf_s _ | exact rf_n | exact rf_q _) ?_
    refine wa_ifnonnullN (pc := 6) (y := mJ5_sequencedKeySet) dJ5_sequencedKeySet_6 ?_
    refine wf_new (k := 15) (l := 2) [.int 0, .null] tyJ36 dJ5_sequencedKeySet_9 rfl q1853 q1854 q131 tyJ36_ok rfl rfl ?_
    have hself : Is (hNew h 15 2) h.1 15 2 := Is.self
    have hm2 : Is (hNew h 15 2) m 12 12 := m1.new
    refine wa_dup (pc := 12) (y := mJ5_sequencedKeySet) dJ5_sequencedKeySet_12 (by first | rfl | exact rf_cat _) ?_
    refine wa_aloadV_n (pc := 13) (y := mJ5_sequencedKeySet) dJ5_sequencedKeySet_13 rfl (by first | exact rf_s _ | exact rf_n | exact rf_q _) ?_
    refine wa_iconst (pc := 14) (y := mJ5_sequencedKeySet) (Int32.ofNat 0) dJ5_sequencedKeySet_14 rfl ?_
    refine wa_callI (pc := 15) (s_J36_init (d := d - 1) (by omega) hself) dJ5_sequencedKeySet_15 okJ36_init rfl rfl rfl q1855 q1856 rfl rfl (Nat.le_of_ble_eq_true rfl) (Nat.le_of_ble_eq_true rfl) (by omega) ?_
    rintro _ _ - - ⟨rfl, rfl⟩
    refine aft_0 (pc2 := 18) ?_ rfl
    refine wa_astoreV_n (pc := 18) (y := mJ5_sequencedKeySet) dJ5_sequencedKeySet_18 (Nat.le_of_ble_eq_true rfl) (by first | rfl | (simp [okst, rf_cat] <;> assumption)) (by first | exact rf_s _ | exact rf_n | exact rf_q _) ?_
    change WA _ _ _ _ (List.set _ 2 _) _ _ _
    simp only [List.set_cons_zero, List.set_cons_succ]
    refine wa_aloadV_n (pc := 19) (y := mJ5_sequencedKeySet) dJ5_sequencedKeySet_19 rfl (by first | exact rf_s _ | exact rf_n | exact rf_q _) ?_
    refine wa_aloadV_n (pc := 20) (y := mJ5_sequencedKeySet) dJ5_sequencedKeySet_20 rfl (by first | exact rf_s _ | exact rf_n | exact rf_q _) ?_
    refine wf_put (k := 12) (l := 12) 6 (.object "java/util/Set") dJ5_sequencedKeySet_21 (by assumption) rfl q217 (Or.inr q218) (Nat.le_of_ble_eq_true rfl) rfl (by decide +kernel) (by first | rfl | exact rf_nar _ | exact rf_nar2 _) (by first | rfl | exact rf_fit _ | exact rf_fit2 _) ?_
    refine wa_aloadV_n (pc := 24) (y := mJ5_sequencedKeySet) dJ5_sequencedKeySet_24 rfl (by first | exact rf_s _ | exact rf_n | exact rf_q _) ?_
    refine wa_areturnV (pc := 25) (y := mJ5_sequencedKeySet) (.object "java/util/SequencedSet") dJ5_sequencedKeySet_25 rfl (Or.inl ⟨_, rfl⟩) (by first | exact rf_s _ | exact rf_n | exact rf_q _) (VwQ.made M t V (by decide))
  · refine wa_aloadV_n (pc := 0) (y := mJ5_sequencedKeySet) dJ5_sequencedKeySet_0 rfl (by first | exact rf_s _ | exact rf_n | exact rf_q _) ?_
    refine wf_get (k := 12) (l := 12) 6 dJ5_sequencedKeySet_1 (by assumption) rfl q217 (Or.inr q218) (Nat.le_of_ble_eq_true rfl) (Nat.le_of_ble_eq_true rfl) (by (repeat (first | exact updF_self _ _ _ _ | (apply updF_i; · decide) | (apply updF_a; · first | assumption | (apply Ne.symm; assumption) | omega) | (apply newF_a; · first | assumption | (apply Ne.symm; assumption) | omega) | exact newL_self (by rfl) | exact newF_self (by rfl) | (apply cpyF_a; · first | assumption | (apply Ne.symm; assumption) | omega))) <;> first | assumption | rfl) ?_
    refine wa_astoreV_n (pc := 4) (y := mJ5_sequencedKeySet) dJ5_sequencedKeySet_4 (Nat.le_of_ble_eq_true rfl) (by first | rfl | (simp [okst, rf_cat] <;> assumption)) (by first | exact rf_s _ | exact rf_n | exact rf_q _) ?_
    change WA _ _ _ _ (List.set _ 1 _) _ _ _
    simp only [List.set_cons_zero, List.set_cons_succ]
    refine wa_aloadV_n (pc := 5) (y := mJ5_sequencedKeySet) dJ5_sequencedKeySet_5 rfl (by first | exact rf_s _ | exact rf_n | exact rf_q _) ?_
    refine wa_ifnonnull (pc := 6) (y := mJ5_sequencedKeySet) 26 dJ5_sequencedKeySet_6 rfl ?_
    refine wa_aloadV_n (pc := 26) (y := mJ5_sequencedKeySet) dJ5_sequencedKeySet_26 rfl (by first | exact rf_s _ | exact rf_n | exact rf_q _) ?_
    refine wa_castY (pc := 27) (y := mJ5_sequencedKeySet) (k := 15) dJ5_sequencedKeySet_27 (sF_at (by assumption)) rfl q1404 q3106 ?_
    refine wa_areturnV (pc := 30) (y := mJ5_sequencedKeySet) (.object "java/util/SequencedSet") dJ5_sequencedKeySet_30 rfl (Or.inl ⟨_, rfl⟩) (by first | exact rf_s _ | exact rf_n | exact rf_q _) (VwQ.same (V := mv.2.1) M t q1)
theorem s_J5_keySet (hd : 5 ≤ d) (M : MapR h F m ns) (t : TK h F m k) : MA G d mJ5_keySet [.ref m] (sF h F) (VwQ m 6 15 h F ns k) := by
  have m1 := M.1
  change WA G d mJ5_keySet 0 [.ref m] [] _ _
  refine wa_aloadV_n (pc := 0) (y := mJ5_keySet) dJ5_keySet_0 rfl (by first | exact rf_s _ | exact rf_n | exact rf_q _) ?_
  refine wa_callV (pc := 1) (s_J5_sequencedKeySet (d := d - 1) (by omega) M t) dJ5_keySet_1 okJ5_sequencedKeySet q1849 q1850 q1851 (sF_at (by assumption)) rfl rfl rfl (Nat.le_of_ble_eq_true rfl) (Nat.le_of_ble_eq_true rfl) (by omega) ?_
  rintro _ _ - - Z
  have Z9 := Z
  obtain ⟨h2, F2, v, rfl, -⟩ := Z
  refine aft_v (pc2 := 4) ?_ rfl
  refine wa_areturnV (pc := 4) (y := mJ5_keySet) (.object "java/util/Set") dJ5_keySet_4 rfl (Or.inl ⟨_, rfl⟩) (by first | exact rf_s _ | exact rf_n | exact rf_q _) Z9
theorem s_J39_init (hd : 3 ≤ d) (hv : Is h v 17 2) : MA G d mJ39_init [.ref v, .ref m, .int 0] (sF h F) (fun r h' => r = .inl none ∧ h' = sF h (updF (updF F v 1 (.ref m)) v 0 (.int 0))) := by
  change WA G d mJ39_init 0 [.ref v, .ref m, .int 0] [] _ _
  refine wa_aloadV_n (pc := 0) (y := mJ39_init) dJ39_init_0 rfl (by first | exact rf_s _ | exact rf_n | exact rf_q _) ?_
  refine wa_aloadV_n (pc := 1) (y := mJ39_init) dJ39_init_1 rfl (by first | exact rf_s _ | exact rf_n | exact rf_q _) ?_
  refine wf_putF (k := 17) (l := 2) 1 (.object "java/util/LinkedHashMap") dJ39_init_2 (by assumption) rfl q2412 (Or.inl rfl) (Nat.le_of_ble_eq_true rfl) rfl rfl rfl (by decide +kernel) (by first | rfl | exact rf_nar _ | exact rf_nar2 _) (by first | rfl | exact rf_fit _ | exact rf_fit2 _) ?_
  refine wa_aloadV_n (pc := 5) (y := mJ39_init) dJ39_init_5 rfl (by first | exact rf_s _ | exact rf_n | exact rf_q _) ?_
  refine wa_callI (pc := 6) (s_J0_init (d := d - 1) (by omega)) dJ39_init_6 okJ0_init rfl rfl rfl q2410 q168 rfl rfl (Nat.le_of_ble_eq_true rfl) (Nat.le_of_ble_eq_true rfl) (by omega) ?_
  rintro _ _ - - ⟨rfl, rfl⟩
  refine aft_0 (pc2 := 9) ?_ rfl
  refine wa_aloadV_n (pc := 9) (y := mJ39_init) dJ39_init_9 rfl (by first | exact rf_s _ | exact rf_n | exact rf_q _) ?_
  refine wa_iload_n (pc := 10) (y := mJ39_init) dJ39_init_10 rfl ?_
  refine wf_putF (k := 17) (l := 2) 0 .boolean dJ39_init_11 (by assumption) rfl q2411 (Or.inl rfl) (Nat.le_of_ble_eq_true rfl) rfl rfl rfl (by decide +kernel) (by first | rfl | exact bI_nar _) (by first | rfl | exact bI_fit _) ?_
  refine wa_return (pc := 14) (y := mJ39_init) dJ39_init_14 rfl ⟨rfl, rfl⟩
theorem s_J5_sequencedValues (hd : 4 ≤ d) (M : MapR h F m ns) (t : TK h F m k) : MA G d mJ5_sequencedValues [.ref m] (sF h F) (VwQ m 7 17 h F ns k) := by
  have m1 := M.1
  have mv := M.2.2.2.2.2.2.2.2.2.2.1
  have hmn : m ≠ h.1 := Nat.ne_of_lt m1.lt
  change WA G d mJ5_sequencedValues 0 [.ref m, .retAddr 0, .retAddr 0] [] _ _
  rcases mv.2.2 with V | ⟨v, q1, q2, q3, q4⟩
  · refine wa_aloadV_n (pc := 0) (y := mJ5_sequencedValues) dJ5_sequencedValues_0 rfl (by first | exact rf_s _ | exact rf_n | exact rf_q _) ?_
    refine wf_get (k := 12) (l := 12) 7 dJ5_sequencedValues_1 (by assumption) rfl q219 (Or.inr q220) (Nat.le_of_ble_eq_true rfl) (Nat.le_of_ble_eq_true rfl) (by (repeat (first | exact updF_self _ _ _ _ | (apply updF_i; · decide) | (apply updF_a; · first | assumption | (apply Ne.symm; assumption) | omega) | (apply newF_a; · first | assumption | (apply Ne.symm; assumption) | omega) | exact newL_self (by rfl) | exact newF_self (by rfl) | (apply cpyF_a; · first | assumption | (apply Ne.symm; assumption) | omega))) <;> first | assumption | rfl) ?_
    refine wa_astoreV_n (pc := 4) (y := mJ5_sequencedValues) dJ5_sequencedValues_4 (Nat.le_of_ble_eq_true rfl) (by first | rfl | (simp [okst, rf_cat] <;> assumption)) (by first | exact rf_s _ | exact rf_n | exact rf_q _) ?_
    change WA _ _ _ _ (List.set _ 1 _) _ _ _
    simp only [List.set_cons_zero, List.set_cons_succ]
    refine wa_aloadV_n (pc := 5) (y := mJ5_sequencedValues) dJ5_sequencedValues_5 rfl (by first | exact rf_s _ | exact rf_n | exact rf_q _) ?_
    refine wa_ifnonnullN (pc := 6) (y := mJ5_sequencedValues) dJ5_sequencedValues_6 ?_
    refine wf_new (k := 17) (l := 2) [.int 0, .null] tyJ39 dJ5_sequencedValues_9 rfl q2405 q2406 q138 tyJ39_ok rfl rfl ?_
    have hself : Is (hNew h 17 2) h.1 17 2 := Is.self
    have hm2 : Is (hNew h 17 2) m 12 12 := m1.new
    refine wa_dup (pc := 12) (y := mJ5_sequencedValues) dJ5_sequencedValues_12 (by first | rfl | exact rf_cat _) ?_
    refine wa_aloadV_n (pc := 13) (y := mJ5_sequencedValues) dJ5_sequencedValues_13 rfl (by first | exact rf_s _ | exact rf_n | exact rf_q _) ?_
    refine wa_iconst (pc := 14) (y := mJ5_sequencedValues) (Int32.ofNat 0) dJ5_sequencedValues_14 rfl ?_
    refine wa_callI (pc := 15) (s_J39_init (d := d - 1) (by omega) hself) dJ5_sequencedValues_15 okJ39_init rfl rfl rfl q2407 q2408 rfl rfl (Nat.le_of_ble_eq_true rfl) (Nat.le_of_ble_eq_true rfl) (by omega) ?_
    rintro _ _ - - ⟨rfl, rfl⟩
    refine aft_0 (pc2 := 18) ?_ rfl
    refine wa_astoreV_n (pc := 18) (y := mJ5_sequencedValues) dJ5_sequencedValues_18 (Nat.le_of_ble_eq_true rfl) (by first | rfl | (simp [okst, rf_cat] <;> assumption)) (by first | exact rf_s _ | exact rf_n | exact rf_q _) ?_
    change WA _ _ _ _ (List.set _ 2 _) _ _ _
    simp only [List.set_cons_zero, List.set_cons_succ]
    refine wa_aloadV_n (pc := 19) (y := mJ5_sequencedValues) dJ5_sequencedValues_19 rfl (by first | exact rf_s _ | exact rf_n | exact rf_q _) ?_
    refine wa_aloadV_n (pc := 20) (y := mJ5_sequencedValues) dJ5_sequencedValues_20 rfl (by first | exact rf_s _ | exact rf_n | exact rf_q _) ?_
    refine wf_put (k := 12) (l := 12) 7 (.object "java/util/Collection") dJ5_sequencedValues_21 (by assumption) rfl q219 (Or.inr q220) (Nat.le_of_ble_eq_true rfl) rfl (by decide +kernel) (by first | rfl | exact rf_nar _ | exact rf_nar2 _) (by first | rfl | exact rf_fit _ | exact rf_fit2 _) ?_
    refine wa_aloadV_n (pc := 24) (y := mJ5_sequencedValues) dJ5_sequencedValues_24 rfl (by first | exact rf_s _ | exact rf_n | exact rf_q _) ?_
    refine wa_areturnV (pc := 25) (y := mJ5_sequencedValues) (.object "java/util/SequencedCollection") dJ5_sequencedValues_25 rfl (Or.inl ⟨_, rfl⟩) (by first | exact rf_s _ | exact rf_n | exact rf_q _) (VwQ.made M t V (by decide))
  · refine wa_aloadV_n (pc := 0) (y := mJ5_sequencedValues) dJ5_sequencedValues_0 rfl (by first | exact rf_s _ | exact rf_n | exact rf_q _) ?_
    refine wf_get (k := 12) (l := 12) 7 dJ5_sequencedValues_1 (by assumption) rfl q219 (Or.inr q220) (Nat.le_of_ble_eq_true rfl) (Nat.le_of_ble_eq_true rfl) (by (repeat (first | exact updF_self _ _ _ _ | (apply updF_i; · decide) | (apply updF_a; · first | assumption | (apply Ne.symm; assumption) | omega) | (apply newF_a; · first | assumption | (apply Ne.symm; assumption) | omega) | exact newL_self (by rfl) | exact newF_self (by rfl) | (apply cpyF_a; · first | assumption | (apply Ne.symm; assumption) | omega))) <;> first | assumption | rfl) ?_
    refine wa_astoreV_n (pc := 4) (y := mJ5_sequencedValues) dJ5_sequencedValues_4 (Nat.le_of_ble_eq_true rfl) (by first | rfl | (simp [okst, rf_cat] <;> assumption)) (by first | exact rf_s _ | exact rf_n | exact rf_q _) ?_
    change WA _ _ _ _ (List.set _ 1 _) _ _ _
    simp only [List.set_cons_zero, List.set_cons_succ]
    refine wa_aloadV_n (pc := 5) (y := mJ5_sequencedValues) dJ5_sequencedValues_5 rfl (by first | exact rf_s _ | exact rf_n | exact rf_q _) ?_
    refine wa_ifnonnull (pc := 6) (y := mJ5_sequencedValues) 26 dJ5_sequencedValues_6 rfl ?_
    refine wa_aloadV_n (pc := 26) (y := mJ5_sequencedValues) dJ5_sequencedValues_26 rfl (by first | exact rf_s _ | exact rf_n | exact rf_q _) ?_
    refine wa_castY (pc := 27) (y := mJ5_sequencedValues) (k := 17) dJ5_sequencedValues_27 (sF_at (by assumption)) rfl q2418 q3113 ?_
    refine wa_areturnV (pc := 30) (y := mJ5_sequencedValues) (.object "java/util/SequencedCollection") dJ5_sequencedValues_30 rfl (Or.inl ⟨_, rfl⟩) (by first | exact rf_s _ | exact rf_n | exact rf_q _) (VwQ.same (V := mv.2.2) M t q1)
theorem s_J5_values (hd : 5 ≤ d) (M : MapR h F m ns) (t : TK h F m k) : MA G d mJ5_values [.ref m] (sF h F) (VwQ m 7 17 h F ns k) := by
  have m1 := M.1
  change WA G d mJ5_values 0 [.ref m] [] _ _
  refine wa_aloadV_n (pc := 0) (y := mJ5_values) dJ5_values_0 rfl (by first | exact rf_s _ | exact rf_n | exact rf_q _) ?_
  refine wa_callV (pc := 1) (s_J5_sequencedValues (d := d - 1) (by omega) M t) dJ5_values_1 okJ5_sequencedValues q2401 q2402 q2403 (sF_at (by assumption)) rfl rfl rfl (Nat.le_of_ble_eq_true rfl) (Nat.le_of_ble_eq_true rfl) (by omega) ?_
  rintro _ _ - - Z
  have Z9 := Z
  obtain ⟨h2, F2, v, rfl, -⟩ := Z
  refine aft_v (pc2 := 4) ?_ rfl
  refine wa_areturnV (pc := 4) (y := mJ5_values) (.object "java/util/Collection") dJ5_values_4 rfl (Or.inl ⟨_, rfl⟩) (by first | exact rf_s _ | exact rf_n | exact rf_q _) Z9
theorem s_J28_init (hd : 3 ≤ d) (hv : Is h v 19 2) : MA G d mJ28_init [.ref v, .ref m, .int 0] (sF h F) (fun r h' => r = .inl none ∧ h' = sF h (updF (updF F v 1 (.ref m)) v 0 (.int 0))) := by
  change WA G d mJ28_init 0 [.ref v, .ref m, .int 0] [] _ _
  refine wa_aloadV_n (pc := 0) (y := mJ28_init) dJ28_init_0 rfl (by first | exact rf_s _ | exact rf_n | exact rf_q _) ?_
  refine wa_aloadV_n (pc := 1) (y := mJ28_init) dJ28_init_1 rfl (by first | exact rf_s _ | exact rf_n | exact rf_q _) ?_
  refine wf_putF (k := 19) (l := 2) 1 (.object "java/util/LinkedHashMap") dJ28_init_2 (by assumption) rfl q1398 (Or.inl rfl) (Nat.le_of_ble_eq_true rfl) rfl rfl rfl (by decide +kernel) (by first | rfl | exact rf_nar _ | exact rf_nar2 _) (by first | rfl | exact rf_fit _ | exact rf_fit2 _) ?_
  refine wa_aloadV_n (pc := 5) (y := mJ28_init) dJ28_init_5 rfl (by first | exact rf_s _ | exact rf_n | exact rf_q _) ?_
  refine wa_callI (pc := 6) (s_J27_init (d := d - 1) (by omega)) dJ28_init_6 okJ27_init rfl rfl rfl q1393 q1394 rfl rfl (Nat.le_of_ble_eq_true rfl) (Nat.le_of_ble_eq_true rfl) (by omega) ?_
  rintro _ _ - - ⟨rfl, rfl⟩
  refine aft_0 (pc2 := 9) ?_ rfl
  refine wa_aloadV_n (pc := 9) (y := mJ28_init) dJ28_init_9 rfl (by first | exact rf_s _ | exact rf_n | exact rf_q _) ?_
  refine wa_iload_n (pc := 10) (y := mJ28_init) dJ28_init_10 rfl ?_
  refine wf_putF (k := 19) (l := 2) 0 .boolean dJ28_init_11 (by assumption) rfl q1397 (Or.inl rfl) (Nat.le_of_ble_eq_true rfl) rfl rfl rfl (by decide +kernel) (by first | rfl | exact bI_nar _) (by first | rfl | exact bI_fit _) ?_
  refine wa_return (pc := 14) (y := mJ28_init) dJ28_init_14 rfl ⟨rfl, rfl⟩
theorem s_J5_sequencedEntrySet (hd : 4 ≤ d) (M : MapR h F m ns) (t : TK h F m k) : MA G d mJ5_sequencedEntrySet [.ref m] (sF h F) (VwQ m 1 19 h F ns k) := by
  have m1 := M.1
  have mv := M.2.2.2.2.2.2.2.2.2.2.1
  have hmn : m ≠ h.1 := Nat.ne_of_lt m1.lt
  change WA G d mJ5_sequencedEntrySet 0 [.ref m, .retAddr 0, .retAddr 0] [] _ _
  rcases mv.1 with V | ⟨v, q1, q2, q3, q4⟩
  · refine wa_aloadV_n (pc := 0) (y := mJ5_sequencedEntrySet) dJ5_sequencedEntrySet_0 rfl (by first | exact rf_s _ | exact rf_n | exact rf_q _) ?_
    refine wf_get (k := 12) (l := 12) 1 dJ5_sequencedEntrySet_1 (by assumption) rfl q208 (Or.inr q209) (Nat.le_of_ble_eq_true rfl) (Nat.le_of_ble_eq_true rfl) (by (repeat (first | exact updF_self _ _ _ _ | (apply updF_i; · decide) | (apply updF_a; · first | assumption | (apply Ne.symm; assumption) | omega) | (apply newF_a; · first | assumption | (apply Ne.symm; assumption) | omega) | exact newL_self (by rfl) | exact newF_self (by rfl) | (apply cpyF_a; · first | assumption | (apply Ne.symm; assumption) | omega))) <;> first | assumption | rfl) ?_
    refine wa_astoreV_n (pc := 4) (y := mJ5_sequencedEntrySet) dJ5_sequencedEntrySet_4 (Nat.le_of_ble_eq_true rfl) (by first | rfl | (simp [okst, rf_cat] <;> assumption)) (by first | exact rf_s _ | exact rf_n | exact rf_q _) ?_
    change WA _ _ _ _ (List.set _ 1 _) _ _ _
    simp only [List.set_cons_zero, List.set_cons_succ]
    refine wa_aloadV_n (pc := 5) (y := mJ5_sequencedEntrySet) dJ5_sequencedEntrySet_5 rfl (by first | exact rf_s _ | exact rf_n | exact rf_q _) ?_
    refine wa_ifnonnullN (pc := 6) (y := mJ5_sequencedEntrySet) dJ5_sequencedEntrySet_6 ?_
    refine wf_new (k := 19) (l := 2) [.int 0, .null] tyJ28 dJ5_sequencedEntrySet_9 rfl q1388 q1389 q123 tyJ28_ok rfl rfl ?_
    have hself : Is (hNew h 19 2) h.1 19 2 := Is.self
    have hm2 : Is (hNew h 19 2) m 12 12 := m1.new
    refine wa_dup (pc := 12) (y := mJ5_sequencedEntrySet) dJ5_sequencedEntrySet_12 (by first | rfl | exact rf_cat _) ?_
    refine wa_aloadV_n (pc := 13) (y := mJ5_sequencedEntrySet) dJ5_sequencedEntrySet_13 rfl (by first | exact rf_s _ | exact rf_n | exact rf_q _) ?_
    refine wa_iconst (pc := 14) (y := mJ5_sequencedEntrySet) (Int32.ofNat 0) dJ5_sequencedEntrySet_14 rfl ?_
    refine wa_callI (pc := 15) (s_J28_init (d := d - 1) (by omega) hself) dJ5_sequencedEntrySet_15 okJ28_init rfl rfl rfl q1390 q1391 rfl rfl (Nat.le_of_ble_eq_true rfl) (Nat.le_of_ble_eq_true rfl) (by omega) ?_
    rintro _ _ - - ⟨rfl, rfl⟩
    refine aft_0 (pc2 := 18) ?_ rfl
    refine wa_astoreV_n (pc := 18) (y := mJ5_sequencedEntrySet) dJ5_sequencedEntrySet_18 (Nat.le_of_ble_eq_true rfl) (by first | rfl | (simp [okst, rf_cat] <;> assumption)) (by first | exact rf_s _ | exact rf_n | exact rf_q _) ?_
    change WA _ _ _ _ (List.set _ 2 _) _ _ _
    simp only [List.set_cons_zero, List.set_cons_succ]
    refine wa_aloadV_n (pc := 19) (y := mJ5_sequencedEntrySet) dJ5_sequencedEntrySet_19 rfl (by first | exact rf_s _ | exact rf_n | exact rf_q _) ?_
    refine wa_aloadV_n (pc := 20) (y := mJ5_sequencedEntrySet) dJ5_sequencedEntrySet_20 rfl (by first | exact rf_s _ | exact rf_n | exact rf_q _) ?_
    refine wf_put (k := 12) (l := 12) 1 (.object "java/util/Set") dJ5_sequencedEntrySet_21 (by assumption) rfl q208 (Or.inr q209) (Nat.le_of_ble_eq_true rfl) rfl (by decide +kernel) (by first | rfl | exact rf_nar _ | exact rf_nar2 _) (by first | rfl | exact rf_fit _ | exact rf_fit2 _) ?_
    refine wa_aloadV_n (pc := 24) (y := mJ5_sequencedEntrySet) dJ5_sequencedEntrySet_24 rfl (by first | exact rf_s _ | exact rf_n | exact rf_q _) ?_
    refine wa_areturnV (pc := 25) (y := mJ5_sequencedEntrySet) (.object "java/util/SequencedSet") dJ5_sequencedEntrySet_25 rfl (Or.inl ⟨_, rfl⟩) (by first | exact rf_s _ | exact rf_n | exact rf_q _) (VwQ.made M t V (by decide))
  · refine wa_aloadV_n (pc := 0) (y := mJ5_sequencedEntrySet) dJ5_sequencedEntrySet_0 rfl (by first | exact rf_s _ | exact rf_n | exact rf_q _) ?_
    refine wf_get (k := 12) (l := 12) 1 dJ5_sequencedEntrySet_1 (by assumption) rfl q208 (Or.inr q209) (Nat.le_of_ble_eq_true rfl) (Nat.le_of_ble_eq_true rfl) (by (repeat (first | exact updF_self _ _ _ _ | (apply updF_i; · decide) | (apply updF_a; · first | assumption | (apply Ne.symm; assumption) | omega) | (apply newF_a; · first | assumption | (apply Ne.symm; assumption) | omega) | exact newL_self (by rfl) | exact newF_self (by rfl) | (apply cpyF_a; · first | assumption | (apply Ne.symm; assumption) | omega))) <;> first | assumption | rfl) ?_
    refine wa_astoreV_n (pc := 4) (y := mJ5_sequencedEntrySet) dJ5_sequencedEntrySet_4 (Nat.le_of_ble_eq_true rfl) (by first | rfl | (simp [okst, rf_cat] <;> assumption)) (by first | exact rf_s _ | exact rf_n | exact rf_q _) ?_
    change WA _ _ _ _ (List.set _ 1 _) _ _ _
    simp only [List.set_cons_zero, List.set_cons_succ]
    refine wa_aloadV_n (pc := 5) (y := mJ5_sequencedEntrySet) dJ5_sequencedEntrySet_5 rfl (by first | exact rf_s _ | exact rf_n | exact rf_q _) ?_
    refine wa_ifnonnull (pc := 6) (y := mJ5_sequencedEntrySet) 26 dJ5_sequencedEntrySet_6 rfl ?_
    refine wa_aloadV_n (pc := 26) (y := mJ5_sequencedEntrySet) dJ5_sequencedEntrySet_26 rfl (by first | exact rf_s _ | exact rf_n | exact rf_q _) ?_
    refine wa_castY (pc := 27) (y := mJ5_sequencedEntrySet) (k := 19) dJ5_sequencedEntrySet_27 (sF_at (by assumption)) rfl q1404 q3105 ?_
    refine wa_areturnV (pc := 30) (y := mJ5_sequencedEntrySet) (.object "java/util/SequencedSet") dJ5_sequencedEntrySet_30 rfl (Or.inl ⟨_, rfl⟩) (by first | exact rf_s _ | exact rf_n | exact rf_q _) (VwQ.same (V := mv.1) M t q1)
theorem s_J5_entrySet (hd : 5 ≤ d) (M : MapR h F m ns) (t : TK h F m k) : MA G d mJ5_entrySet [.ref m] (sF h F) (VwQ m 1 19 h F ns k) := by
  have m1 := M.1
  change WA G d mJ5_entrySet 0 [.ref m] [] _ _
  refine wa_aloadV_n (pc := 0) (y := mJ5_entrySet) dJ5_entrySet_0 rfl (by first | exact rf_s _ | exact rf_n | exact rf_q _) ?_
  refine wa_callV (pc := 1) (s_J5_sequencedEntrySet (d := d - 1) (by omega) M t) dJ5_entrySet_1 okJ5_sequencedEntrySet q1384 q1385 q1386 (sF_at (by assumption)) rfl rfl rfl (Nat.le_of_ble_eq_true rfl) (Nat.le_of_ble_eq_true rfl) (by omega) ?_
  rintro _ _ - - Z
  have Z9 := Z
  obtain ⟨h2, F2, v, rfl, -⟩ := Z
  refine aft_v (pc2 := 4) ?_ rfl
  refine wa_areturnV (pc := 4) (y := mJ5_entrySet) (.object "java/util/Set") dJ5_entrySet_4 rfl (Or.inl ⟨_, rfl⟩) (by first | exact rf_s _ | exact rf_n | exact rf_q _) Z9
end VWS2
