/-! ===== treeifyBin ===== -/
section TBN2
variable {G : GG} {d n : Nat} {h h1 h2 h3 : AH} {F F1 F2 F3 : Nat → Nat → Value} {ρ ρ1 : Nat → Nat} {l m p q x k tb bi i j c s : Nat} {ns a b A B D : List Nat} {Bs : Nat → List Nat}
theorem tb_43 {w2 w3 : Value} {idx : Int32} {Q : RR → AH → Prop} (hd : 5 ≤ d) (hm : Is h m 12 12) (hn : ns.Nodup) (hN : ∀ z, z ∈ ns → Nd h z) (hBn : B.Nodup) (hsub : ∀ z, z ∈ B → z ∈ ns) (hv : ∀ z, z ∈ B → ∃ (s : Int32) (k v : Nat), F z 0 = .int s ∧ F z 1 = .ref k ∧ F z 2 = .ref v) (hc : ChE F 3 B none)
    (KQ : ∀ (h1 : AH) (F1 : Nat → Nat → Value) (ρ : Nat → Nat) (v8 : Value), RepR 11 h F h1 F1 m ns ρ B → DL F1 3 9 (B.map ρ) → (∀ p, p ∈ B → Is h1 (ρ p) 14 11 ∧ F1 (ρ p) 10 = .int 0) →
      WA G d mJ4_treeifyBin 93 [.ref m, .ref tb, w2, w3, .int idx, .null, va_rf (B.map ρ).head?, va_rf (B.map ρ).getLast?, v8] [] (sF h1 F1) Q) :
    ∀ (rest a : List Nat) (q : Nat) (h1 : AH) (F1 : Nat → Nat → Value) (ρ : Nat → Nat) (v8 : Value), a ++ q :: rest = B → RepR 11 h F h1 F1 m ns ρ a → DL F1 3 9 (a.map ρ) → (∀ p, p ∈ a → Is h1 (ρ p) 14 11 ∧ F1 (ρ p) 10 = .int 0) →
      WA G d mJ4_treeifyBin 43 [.ref m, .ref tb, w2, w3, .int idx, .ref q, va_rf (a.map ρ).head?, va_rf (a.map ρ).getLast?, v8] [] (sF h1 F1) Q := by
  intro rest a q h1 F1 ρ v8 ha R dl k1
  have hlt : ∀ z, z ∈ ns → z < h.1 := fun z hz => (hN z hz).lt
  have hmlt := hm.lt
  have hnm : ∀ z, z ∈ ns → z ≠ m := fun z hz => (hN z hz).ne hm (by decide) (by decide)
  have hqB : q ∈ B := by rw [← ha]; simp
  have hqa : q ∉ a := by rw [← ha] at hBn; grind [List.nodup_append]
  have hqn := hsub q hqB
  obtain ⟨c, e, hns⟩ := List.append_of_mem hqn
  obtain ⟨s, kk, vv, v0, v1, v2⟩ := hv q hqB
  have R9 := R
  obtain ⟨r1, r2, r3, r4, r5, r6, r7, r8⟩ := R
  have hmap : ns.map ρ = c.map ρ ++ q :: e.map ρ := by rw [hns, List.map_append, List.map_cons, r4 q hqa]
  have lo1 : LO F1 m (c.map ρ ++ q :: e.map ρ) := hmap ▸ r6
  have hn1 := R9.nodup hn hlt
  have fq : ∀ j, j ≠ 4 ∧ j ≠ 5 → F1 q j = F q j := fun j hj => r8 q j (hlt q hqn) (fun x => hnm q hqn x.1) (fun x => by omega)
  have hN1 : ∀ z, z ∈ c.map ρ ++ q :: e.map ρ → Nd h1 z := fun z hz => by
    rw [← hmap] at hz
    obtain ⟨w, hw, rfl⟩ := List.mem_map.mp hz
    by_cases hwa : w ∈ a
    · exact Or.inr (k1 w hwa).1
    · rw [r4 w hwa]; exact (hN w hw).ext r1
  have hm1 := hm.ext r1
  have h3q : F q 3 = va_rf rest.head? := by rw [← ha] at hc; rw [ChE.mem hc, or_none_]
  have hNq : Nd h1 q := hN1 q (by simp)
  have ha2 : (a ++ [q]) ++ rest = B := by rw [← ha]; simp
  have hlast : (a.map ρ).getLast? = none ∧ a = [] ∨ ∃ w, (a.map ρ).getLast? = some w ∧ Is h1 w 14 11 ∧ h.1 ≤ w ∧ w < h1.1 := by
    cases e9 : (a.map ρ).getLast? with
    | none => exact Or.inl ⟨rfl, by simpa using getLast_none e9⟩
    | some w =>
      obtain ⟨u, hu, rfl⟩ := List.mem_map.mp (getLast_mem e9)
      exact Or.inr ⟨_, rfl, (k1 u hu).1, r3 u hu⟩
  have hmap2 : (a ++ [q]).map (upo ρ q h1.1) = a.map ρ ++ [h1.1] := by
    rw [List.map_append, upo_map hqa]
    simp [upo]
  have hnd : (a.map ρ ++ [h1.1]).Nodup := by
    refine List.nodup_append.mpr ⟨?_, by simp, fun z hz w hw => ?_⟩
    · rw [List.nodup_iff_pairwise_ne, List.pairwise_map]
      refine List.Pairwise.imp_of_mem (fun {x y} hx hy hxy e => hxy (r5 x y hx hy e)) (List.nodup_iff_pairwise_ne.mp ?_)
      rw [← ha] at hBn
      exact (List.nodup_append.mp hBn).1
    · obtain ⟨u, hu, rfl⟩ := List.mem_map.mp hz
      have := r3 u hu
      simp at hw
      omega
  have hold : ∀ z, z ∈ a.map ρ → z < h1.1 ∧ h.1 ≤ z := fun z hz => by obtain ⟨u, hu, rfl⟩ := List.mem_map.mp hz; have := r3 u hu; omega
  have h82 : ∀ (F3 : Nat → Nat → Value), RepR 11 h F (hNew h1 14 11) F3 m ns (upo ρ q h1.1) (a ++ [q]) → DL F3 3 9 (a.map ρ ++ [h1.1]) → (∀ z, z ∈ a → F3 (ρ z) 10 = F1 (ρ z) 10) → F3 h1.1 10 = .int 0 →
      WA G d mJ4_treeifyBin 82 [.ref m, .ref tb, w2, w3, .int idx, .ref q, va_rf (a.map ρ ++ [h1.1]).head?, .ref h1.1, .ref h1.1] [] (sF (hNew h1 14 11) F3) Q := by
    intro F3 R3 dl3 g10 x10
    have f3q : F3 q 3 = va_rf rest.head? := (R3.2.2.2.2.2.2.2 q 3 (hlt q hqn) (fun x => hnm q hqn x.1) (fun x => by omega)).trans h3q
    have hNq2 : Nd (hNew h1 14 11) q := hNq.new
    have hk3 : ∀ p, p ∈ a ++ [q] → Is (hNew h1 14 11) (upo ρ q h1.1 p) 14 11 ∧ F3 (upo ρ q h1.1 p) 10 = .int 0 := fun p hp => by
      by_cases e : p = q
      · rw [e, show upo ρ q h1.1 q = h1.1 from if_pos rfl]; exact ⟨Is.self, x10⟩
      · rw [show upo ρ q h1.1 p = ρ p from if_neg e]
        have hpa := (List.mem_append.mp hp).resolve_right (fun h => e (by simpa using h))
        exact ⟨(k1 p hpa).1.new, (g10 p hpa).trans (k1 p hpa).2⟩
    rw [← hmap2] at dl3 ⊢
    have hl : ((a ++ [q]).map (upo ρ q h1.1)).getLast? = some h1.1 := by rw [hmap2]; simp
    cases rest with
    | nil =>
      rw [List.append_nil] at ha2
      rw [ha2] at R3 dl3 hk3 hl ⊢
      refine wa_aloadV (pc := 82) (y := mJ4_treeifyBin) dJ4_treeifyBin_82 rfl (by first | exact rf_s _ | exact rf_n | exact rf_q _) ?_
      refine wn_get 3 dJ4_treeifyBin_84 (by assumption) q1337 (Or.inl rfl) (Nat.le_of_ble_eq_true rfl) (by (repeat (first | exact updF_self _ _ _ _ | (apply updF_i; · decide) | (apply updF_a; · first | assumption | (apply Ne.symm; assumption) | omega) | (apply newF_a; · first | assumption | (apply Ne.symm; assumption) | omega) | exact newL_self (by rfl) | exact newF_self (by rfl) | (apply cpyF_a; · first | assumption | (apply Ne.symm; assumption) | omega))) <;> first | assumption | rfl) ?_
      refine wa_dup (pc := 87) (y := mJ4_treeifyBin) dJ4_treeifyBin_87 (by first | rfl | exact rf_cat _) ?_
      refine wa_astoreV (pc := 88) (y := mJ4_treeifyBin) dJ4_treeifyBin_88 (Nat.le_of_ble_eq_true rfl) (by first | rfl | (simp [okst, rf_cat] <;> assumption)) (by first | exact rf_s _ | exact rf_n | exact rf_q _) ?_
      simp only [List.set_cons_zero, List.set_cons_succ]
      refine wa_ifnonnullN (pc := 90) (y := mJ4_treeifyBin) dJ4_treeifyBin_90 ?_
      (have K := KQ _ F3 _ (.ref h1.1) R3 dl3 hk3; rw [hl] at K; exact K)
    | cons y rest =>
      refine wa_aloadV (pc := 82) (y := mJ4_treeifyBin) dJ4_treeifyBin_82 rfl (by first | exact rf_s _ | exact rf_n | exact rf_q _) ?_
      refine wn_get 3 dJ4_treeifyBin_84 (by assumption) q1337 (Or.inl rfl) (Nat.le_of_ble_eq_true rfl) (by (repeat (first | exact updF_self _ _ _ _ | (apply updF_i; · decide) | (apply updF_a; · first | assumption | (apply Ne.symm; assumption) | omega) | (apply newF_a; · first | assumption | (apply Ne.symm; assumption) | omega) | exact newL_self (by rfl) | exact newF_self (by rfl) | (apply cpyF_a; · first | assumption | (apply Ne.symm; assumption) | omega))) <;> first | assumption | rfl) ?_
      refine wa_dup (pc := 87) (y := mJ4_treeifyBin) dJ4_treeifyBin_87 (by first | rfl | exact rf_cat _) ?_
      refine wa_astoreV (pc := 88) (y := mJ4_treeifyBin) dJ4_treeifyBin_88 (Nat.le_of_ble_eq_true rfl) (by first | rfl | (simp [okst, rf_cat] <;> assumption)) (by first | exact rf_s _ | exact rf_n | exact rf_q _) ?_
      simp only [List.set_cons_zero, List.set_cons_succ]
      refine wa_ifnonnull (pc := 90) (y := mJ4_treeifyBin) 43 dJ4_treeifyBin_90 rfl ?_
      (have K := tb_43 hd hm hn hN hBn hsub hv hc KQ rest (a ++ [q]) y _ F3 _ (.ref h1.1) ha2 R3 dl3 hk3; rw [hl] at K; exact K)
  rcases hlast with ⟨e9, ea⟩ | ⟨w, e9, hw, hwl, hwu⟩
  · rw [e9]
    refine wa_aloadV_n (pc := 43) (y := mJ4_treeifyBin) dJ4_treeifyBin_43 rfl (by first | exact rf_s _ | exact rf_n | exact rf_q _) ?_
    refine wa_aloadV (pc := 44) (y := mJ4_treeifyBin) dJ4_treeifyBin_44 rfl (by first | exact rf_s _ | exact rf_n | exact rf_q _) ?_
    refine wa_null (pc := 46) (y := mJ4_treeifyBin) dJ4_treeifyBin_46 ?_
    refine wa_callW (k := 12) (pc := 47) (owner := "java/util/HashMap") (s_J5_replacementTreeNode (d := d - 1) (by omega) hm1 lo1 (hmap ▸ hn1) hN1 ((fq 0 (by decide)).trans v0) ((fq 1 (by decide)).trans v1) ((fq 2 (by decide)).trans v2)) dJ4_treeifyBin_47 okJ5_replacementTreeNode rfl q1643 q1645 (hDc_decl q1649) (by decide) q1646 q1647 (sF_at (by assumption)) rfl rfl rfl rfl (Nat.le_of_ble_eq_true rfl) (Nat.le_of_ble_eq_true rfl) (by omega) ?_
    rintro _ _ - - N9
    rw [← hmap] at N9
    obtain ⟨rfl, F2, rfl, R2, g3, g14, gz⟩ := R9.step hqa (hlt q hqn) hns hn hlt hmlt N9 v0 v1 v2
    refine aft_v (pc2 := 50) ?_ rfl
    refine wa_astoreV (pc := 50) (y := mJ4_treeifyBin) dJ4_treeifyBin_50 (Nat.le_of_ble_eq_true rfl) (by first | rfl | (simp [okst, rf_cat] <;> assumption)) (by first | exact rf_s _ | exact rf_n | exact rf_q _) ?_
    simp only [List.set_cons_zero, List.set_cons_succ]
    refine wa_aloadV (pc := 52) (y := mJ4_treeifyBin) dJ4_treeifyBin_52 rfl (by first | exact rf_s _ | exact rf_n | exact rf_q _) ?_
    refine wa_ifnonnullN (pc := 54) (y := mJ4_treeifyBin) dJ4_treeifyBin_54 ?_
    refine wa_aloadV (pc := 57) (y := mJ4_treeifyBin) dJ4_treeifyBin_57 rfl (by first | exact rf_s _ | exact rf_n | exact rf_q _) ?_
    refine wa_astoreV (pc := 59) (y := mJ4_treeifyBin) dJ4_treeifyBin_59 (Nat.le_of_ble_eq_true rfl) (by first | rfl | (simp [okst, rf_cat] <;> assumption)) (by first | exact rf_s _ | exact rf_n | exact rf_q _) ?_
    simp only [List.set_cons_zero, List.set_cons_succ]
    refine wa_goto (pc := 61) (y := mJ4_treeifyBin) 78 dJ4_treeifyBin_61 rfl ?_
    refine wa_aloadV (pc := 78) (y := mJ4_treeifyBin) dJ4_treeifyBin_78 rfl (by first | exact rf_s _ | exact rf_n | exact rf_q _) ?_
    refine wa_astoreV (pc := 80) (y := mJ4_treeifyBin) dJ4_treeifyBin_80 (Nat.le_of_ble_eq_true rfl) (by first | rfl | (simp [okst, rf_cat] <;> assumption)) (by first | exact rf_s _ | exact rf_n | exact rf_q _) ?_
    simp only [List.set_cons_zero, List.set_cons_succ]
    (have K := h82 F2 R2 (by rw [ea]; exact ⟨⟨g3, trivial⟩, ⟨(g14 rfl).2.2.2.1, trivial⟩⟩) (fun z hz => gz z 10 hz (by decide)) (g14 rfl).2.2.2.2; rw [ea] at K; exact K)
  · have hwm := getLast_mem e9
    have e8 : (a.map ρ ++ [h1.1]).head? = (a.map ρ).head? := by cases a <;> simp at e9 ⊢
    rw [e9, ← e8]
    refine wa_aloadV_n (pc := 43) (y := mJ4_treeifyBin) dJ4_treeifyBin_43 rfl (by first | exact rf_s _ | exact rf_n | exact rf_q _) ?_
    refine wa_aloadV (pc := 44) (y := mJ4_treeifyBin) dJ4_treeifyBin_44 rfl (by first | exact rf_s _ | exact rf_n | exact rf_q _) ?_
    refine wa_null (pc := 46) (y := mJ4_treeifyBin) dJ4_treeifyBin_46 ?_
    refine wa_callW (k := 12) (pc := 47) (owner := "java/util/HashMap") (s_J5_replacementTreeNode (d := d - 1) (by omega) hm1 lo1 (hmap ▸ hn1) hN1 ((fq 0 (by decide)).trans v0) ((fq 1 (by decide)).trans v1) ((fq 2 (by decide)).trans v2)) dJ4_treeifyBin_47 okJ5_replacementTreeNode rfl q1643 q1645 (hDc_decl q1649) (by decide) q1646 q1647 (sF_at (by assumption)) rfl rfl rfl rfl (Nat.le_of_ble_eq_true rfl) (Nat.le_of_ble_eq_true rfl) (by omega) ?_
    rintro _ _ - - N9
    rw [← hmap] at N9
    obtain ⟨rfl, F2, rfl, R2, g3, g14, gz⟩ := R9.step hqa (hlt q hqn) hns hn hlt hmlt N9 v0 v1 v2
    refine aft_v (pc2 := 50) ?_ rfl
    have hself : Is (hNew h1 14 11) h1.1 14 11 := Is.self
    have hw2 : Is (hNew h1 14 11) w 14 11 := hw.new
    have hwN : Nd (hNew h1 14 11) w := Or.inr hw2
    refine wa_astoreV (pc := 50) (y := mJ4_treeifyBin) dJ4_treeifyBin_50 (Nat.le_of_ble_eq_true rfl) (by first | rfl | (simp [okst, rf_cat] <;> assumption)) (by first | exact rf_s _ | exact rf_n | exact rf_q _) ?_
    simp only [List.set_cons_zero, List.set_cons_succ]
    refine wa_aloadV (pc := 52) (y := mJ4_treeifyBin) dJ4_treeifyBin_52 rfl (by first | exact rf_s _ | exact rf_n | exact rf_q _) ?_
    refine wa_ifnonnull (pc := 54) (y := mJ4_treeifyBin) 64 dJ4_treeifyBin_54 rfl ?_
    refine wa_aloadV (pc := 64) (y := mJ4_treeifyBin) dJ4_treeifyBin_64 rfl (by first | exact rf_s _ | exact rf_n | exact rf_q _) ?_
    refine wa_aloadV (pc := 66) (y := mJ4_treeifyBin) dJ4_treeifyBin_66 rfl (by first | exact rf_s _ | exact rf_n | exact rf_q _) ?_
    refine wf_put (k := 14) (l := 11) 9 (.object "java/util/HashMap$TreeNode") dJ4_treeifyBin_68 (by assumption) rfl q1618 (Or.inl rfl) (Nat.le_of_ble_eq_true rfl) rfl (by decide +kernel) (by first | rfl | exact rf_nar _ | exact rf_nar2 _) (by first | rfl | exact rf_fit _ | exact rf_fit2 _) ?_
    refine wa_aloadV (pc := 71) (y := mJ4_treeifyBin) dJ4_treeifyBin_71 rfl (by first | exact rf_s _ | exact rf_n | exact rf_q _) ?_
    refine wa_aloadV (pc := 73) (y := mJ4_treeifyBin) dJ4_treeifyBin_73 rfl (by first | exact rf_s _ | exact rf_n | exact rf_q _) ?_
    refine wf_put (k := 14) (l := 11) 3 (.object "java/util/HashMap$Node") dJ4_treeifyBin_75 (by assumption) rfl q1338 (Or.inr q1335) (Nat.le_of_ble_eq_true rfl) rfl (by decide +kernel) (by first | rfl | exact rf_nar _ | exact rf_nar2 _) (by first | rfl | exact rf_fit _ | exact rf_fit2 _) ?_
    refine wa_aloadV (pc := 78) (y := mJ4_treeifyBin) dJ4_treeifyBin_78 rfl (by first | exact rf_s _ | exact rf_n | exact rf_q _) ?_
    refine wa_astoreV (pc := 80) (y := mJ4_treeifyBin) dJ4_treeifyBin_80 (Nat.le_of_ble_eq_true rfl) (by first | rfl | (simp [okst, rf_cat] <;> assumption)) (by first | exact rf_s _ | exact rf_n | exact rf_q _) ?_
    simp only [List.set_cons_zero, List.set_cons_succ]
    exact h82 _ ((R2.upd (z := h1.1) (j := 9) (v := .ref w) (by have := r1.1; omega) hmlt (by decide)).upd (z := w) (j := 3) (v := .ref h1.1) hwl hmlt (by decide)) (DL.snoc (F := F2) ⟨ChE_congr (fun z hz => by obtain ⟨u, hu, rfl⟩ := List.mem_map.mp hz; exact gz u 3 hu (by decide)) dl.1, PvE_congr (fun z hz => by obtain ⟨u, hu, rfl⟩ := List.mem_map.mp hz; exact gz u 9 hu (by decide)) dl.2⟩ hnd (fun z hz => if ez : z = w then by subst ez; rw [updF_self, if_pos e9] else by have h9 := (hold z hz).1; rw [updF_a ez rfl, updF_a (by omega) rfl, if_neg (fun e => ez (Option.some.inj (e.symm.trans e9)).symm.symm)]) (fun z hz => by have h9 := (hold z hz).1; exact (updF_i (by decide) rfl).trans (updF_a (by omega) rfl)) ((updF_a (by omega) rfl).trans ((updF_i (by decide) rfl).trans g3)) ((updF_i (by decide) rfl).trans ((updF_self _ _ _ _).trans (by rw [e9])))) (fun z hz => (updF_i (by decide) rfl).trans ((updF_i (by decide) rfl).trans (gz z 10 hz (by decide)))) ((updF_i (by decide) rfl).trans ((updF_i (by decide) rfl).trans (g14 rfl).2.2.2.2))
end TBN2
