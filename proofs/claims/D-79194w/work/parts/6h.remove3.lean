/-! ===== TreeNode: removeTreeNode, whole ===== -/
/-- what a removal leaves of the bin B when B' stay: nothing, a tree, or plain nodes -/
def RtQ (h : AH) (F : Nat → Nat → Value) (m tb bi : Nat) (ns B B' : List Nat) (κ : Nat → Nat) (mv : Bool) (r : RR) (h' : AH) : Prop :=
  r = .inl none ∧ ((B' = [] ∧ ∃ F2, h' = sF h F2 ∧ F2 tb bi = .null ∧ FrP (fun z j => z = tb ∧ j = bi ∨ z ∈ B ∧ (j = 3 ∨ j = 6 ∨ j = 7 ∨ j = 8 ∨ j = 9 ∨ j = 10)) F F2) ∨ RmQ h F tb bi B B' κ r h' ∨
    mv = true ∧ ∃ (F1 : Nat → Nat → Value) (h2 : AH) (F2 : Nat → Nat → Value) (ρ : Nat → Nat), h' = sF h2 F2 ∧ FrP (fun z j => z = tb ∧ j = bi ∨ z ∈ B ∧ (j = 3 ∨ j = 6 ∨ j = 7 ∨ j = 8 ∨ j = 9 ∨ j = 10)) F F1 ∧ RepR 6 h F1 h2 F2 m ns ρ B' ∧ F2 tb bi = va_rf (B'.map ρ).head? ∧ ChE F2 3 (B'.map ρ) none ∧ ∀ z, z ∈ B' → Is h2 (ρ z) 13 6)
section REMOVE3
variable {G : GG} {d n : Nat} {h h2 : AH} {F F0 F1 F2 F3 : Nat → Nat → Value} {S : Nat → Prop} {κ key : Nat → Nat} {tb bi k p q x c s pl pr root m r0 f0 f1 : Nat} {B B1 a b ns : List Nat} {mv : Bool} {v4 v5 v6 v7 v8 v9 v10 v11 v12 v13 v14 v15 v16 v17 v18 v19 v20 : Value} {L R P : Nat → Option Nat} {C : Nat → Bool} {lo hi rk : Nat → Nat} {top M : Nat}
theorem rt_94 (hd : 5 ≤ d) (hG : StG G) (hm : Is h m 12 12) (lo0 : LO F1 m ns) (hnn : ns.Nodup) (hN : ∀ z, z ∈ ns → Nd h z) (ht : Is h tb 36 (2 ^ k)) (hk : k < 16) (hbi : bi < 2 ^ k) (hB : B = a ++ p :: b) (hn : B.Nodup) (hsub : ∀ z, z ∈ B → z ∈ ns) (hI : ∀ z, z ∈ B → Is h z 14 11) (nk : ∀ z, z ∈ B → NK h F1 z (κ z)) (hv : ∀ z, z ∈ B → ∃ v, F1 z 2 = .ref v)
    (hinj : ∀ a b, a ∈ B → b ∈ B → κ a = κ b → a = b) (hmod : ∀ z, z ∈ B → κ z % 2 ^ k = bi) (hs : F1 tb bi = va_rf (a ++ b).head?) (hf1 : (a ++ b).head? = some f1) (hf0 : f0 ∈ B) (dl : DL F1 3 9 (a ++ b)) (t : T0 (· ∈ B) κ root L R P lo hi rk 1200 M) (tl : TL h F1 (· ∈ B) L R P C)
    (fr : FrP (fun z j => z = tb ∧ j = bi ∨ z ∈ B ∧ (j = 3 ∨ j = 6 ∨ j = 7 ∨ j = 8 ∨ j = 9 ∨ j = 10)) F F1) (c9 : v9.category = 1) (c10 : v10.category = 1) (c13 : v13.category = 1) (c14 : v14.category = 1) (c15 : v15.category = 1) (c18 : v18.category = 1) :
    WA G d mJ26_removeTreeNode 94 [.ref p, .ref m, .ref tb, .int (bI mv), .int (Int32.ofNat (2 ^ k)), .int (Int32.ofNat bi), .ref f1, .ref f0, v8, v9, v10, v11, v12, v13, v14, v15, v16, v17, v18, v19, v20] [] (sF h F1) (RtQ h F m tb bi ns B (a ++ b) κ mv) := by
  have hk2 : 2 ^ k < 2 ^ 16 := Nat.pow_lt_pow_right (by decide) hk
  have hsub2 : ∀ z, z ∈ a ++ b → z ∈ B := fun z hz => by rw [hB]; simp at hz ⊢; exact hz.elim Or.inl (fun q => Or.inr (Or.inr q))
  have hn2 : (a ++ b).Nodup := by rw [hB] at hn; grind [List.nodup_append]
  have hf1m := head_mem hf1
  have hf1I := hI f1 (hsub2 f1 hf1m)
  have hf1p : f1 ≠ p := by rintro rfl; rw [hB] at hn; grind [List.nodup_append]
  have h0 : ∀ z, z ∈ B → F1 z 0 = .int (Int32.ofNat (κ z)) ∧ κ z < 1200 ∧ κ z % 2 ^ k = bi := fun z hz => by
    obtain ⟨e0, q, e1, k1, k2, k3, k4⟩ := nk z hz
    exact ⟨e0, k4, hmod z hz⟩
  obtain ⟨g1, g2, g3, g4, g5⟩ := tl f0 hf0
  obtain ⟨x1, x2, x3, x4, x5⟩ := tl root t.1.1
  have main : ∀ v8, WA G d mJ26_removeTreeNode 109 [.ref p, .ref m, .ref tb, .int (bI mv), .int (Int32.ofNat (2 ^ k)), .int (Int32.ofNat bi), .ref f1, .ref root, v8, v9, v10, v11, v12, v13, v14, v15, v16, v17, v18, v19, v20] [] (sF h F1) (RtQ h F m tb bi ns B (a ++ b) κ mv) := by
    intro v8
    have tree : ∀ v8, WA G d mJ26_removeTreeNode 156 [.ref p, .ref m, .ref tb, .int (bI mv), .int (Int32.ofNat (2 ^ k)), .int (Int32.ofNat bi), .ref f1, .ref root, v8, v9, v10, v11, v12, v13, v14, v15, v16, v17, v18, v19, v20] [] (sF h F1) (RtQ h F m tb bi ns B (a ++ b) κ mv) := by
      intro v8
      refine rt_156 (by omega) rfl c10 hB hn ⟨f1, hsub2 f1 hf1m, hf1p⟩ hinj t tl (fun F6 r0 v4 v5 v6 v7 v8 v9 v10 v11 v12 v13 v14 v16 v17 v18 v19 v20 t6 f6 => ?_) c14 c15 c18 c13
      refine WA.mono (rt_626 (F0 := F) (B := B) (by omega) hG ht hk hn2 hsub2 hI (fun z hz => ?_) ?_ ?_ t6 (fr.trans (f6.mono fun z j hz => Or.inr ⟨hz.1, by omega⟩))) (fun r h' _ _ q => ⟨q.1, Or.inr (Or.inl q)⟩)
      · rw [f6 z 0 fun e => by omega]
        exact h0 z (hsub2 z hz)
      · rw [f6 tb bi fun e => (hI tb e.1).ne ht (by decide) rfl]
        exact hs
      · exact ⟨ChE_congr (fun z hz => f6 z 3 fun e => by omega) dl.1, PvE_congr (fun z hz => f6 z 9 fun e => by omega) dl.2⟩
    have plain : mv = true → ∀ v8, WA G d mJ26_removeTreeNode 145 [.ref p, .ref m, .ref tb, .int (bI mv), .int (Int32.ofNat (2 ^ k)), .int (Int32.ofNat bi), .ref f1, .ref root, v8, v9, v10, v11, v12, v13, v14, v15, v16, v17, v18, v19, v20] [] (sF h F1) (RtQ h F m tb bi ns B (a ++ b) κ mv) := by
      intro hmv v8
      have hBt : ∃ tl0, a ++ b = f1 :: tl0 := by cases e : a ++ b with
        | nil => rw [e] at hf1; cases hf1
        | cons z tl0 => rw [e] at hf1; cases hf1; exact ⟨tl0, rfl⟩
      obtain ⟨tl0, hBt⟩ := hBt
      have htns : tb ∉ ns := fun e => (hN tb e).ne ht (by decide) (by decide) rfl
      have htm : tb ≠ m := ht.ne hm (by decide)
      refine wa_aloadV_n (pc := 145) (y := mJ26_removeTreeNode) dJ26_removeTreeNode_145 rfl (by first | exact rf_s _ | exact rf_n | exact rf_q _) ?_
      refine wa_iload (pc := 146) (y := mJ26_removeTreeNode) dJ26_removeTreeNode_146 rfl ?_
      refine wa_aloadV (pc := 148) (y := mJ26_removeTreeNode) dJ26_removeTreeNode_148 rfl (by first | exact rf_s _ | exact rf_n | exact rf_q _) ?_
      refine wa_aloadV_n (pc := 150) (y := mJ26_removeTreeNode) dJ26_removeTreeNode_150 rfl (by first | exact rf_s _ | exact rf_n | exact rf_q _) ?_
      refine wa_callV (pc := 151) (s_J26_untreeify (d := d - 1) (B := a ++ b) (by omega) hBt hm lo0 hnn hN hn2 (fun z hz => hsub z (hsub2 z hz)) (fun z hz => by obtain ⟨e0, q, e1, -⟩ := nk z (hsub2 z hz); obtain ⟨v, e2⟩ := hv z (hsub2 z hz); exact ⟨_, q, v, e0, e1, e2⟩) dl.1) dJ26_removeTreeNode_151 okJ26_untreeify q1291 q1292 q1293 (sF_at (by assumption)) rfl rfl rfl (Nat.le_of_ble_eq_true rfl) (Nat.le_of_ble_eq_true rfl) (by omega) ?_
      rintro _ _ - - ⟨h2, F2, ρ, rfl, rfl, R2, u1, u2⟩
      refine aft_v (pc2 := 154) ?_ rfl
      have ht2 := ht.ext R2.1
      refine wf_aastoreV (pc := 154) (y := mJ26_removeTreeNode) "java/util/HashMap$Node" dJ26_removeTreeNode_154 ht2 (Or.inr ⟨rfl, rfl⟩) (by omega) (rf_q _) (fun z hz => by obtain ⟨w, hw, rfl⟩ := List.mem_map.mp (head_mem hz); exact Nd.stor (Or.inl (u2 w hw))) ?_
      refine wa_return (pc := 155) (y := mJ26_removeTreeNode) dJ26_removeTreeNode_155 rfl ⟨rfl, Or.inr (Or.inr ⟨hmv, updF F1 tb bi (va_rf (List.map ρ (a ++ b)).head?), h2, _, ρ, rfl, fr.upd (Or.inl ⟨rfl, rfl⟩), ?_, updF_self _ _ _ _, ?_, u2⟩)⟩
      · obtain ⟨r1, r2, r3, r4, r5, r6, r7, r8⟩ := R2
        refine ⟨r1, r2, r3, r4, r5, r6.congr (updF_a (Ne.symm htm) rfl) (updF_a (Ne.symm htm) rfl) (fun z hz => updF_a ?_ rfl) (fun z hz => updF_a ?_ rfl), fun z hz j hj => ?_, fun z j hz g8 g4 => ?_⟩
        · obtain ⟨w, hw, rfl⟩ := List.mem_map.mp hz
          by_cases hwa : w ∈ a ++ b
          · have := r3 w hwa; have := ht.lt; omega
          · rw [r4 w hwa]; rintro rfl; exact htns hw
        · obtain ⟨w, hw, rfl⟩ := List.mem_map.mp hz
          by_cases hwa : w ∈ a ++ b
          · have := r3 w hwa; have := ht.lt; omega
          · rw [r4 w hwa]; rintro rfl; exact htns hw
        · rw [updF_a (by have := r3 z hz; have := ht.lt; omega) (r7 z hz j hj), updF_a (by rintro rfl; exact htns (hsub z (hsub2 z hz))) rfl]
        · by_cases e : z = tb ∧ j = bi
          · obtain ⟨rfl, rfl⟩ := e
            rw [updF_self, updF_self]
          · by_cases e1 : z = tb
            · rw [updF_i (fun e2 => e ⟨e1, e2⟩) (r8 z j hz g8 g4), updF_i (fun e2 => e ⟨e1, e2⟩) rfl]
            · rw [updF_a e1 (r8 z j hz g8 g4), updF_a e1 rfl]
      · refine ChE_congr (fun z hz => updF_a ?_ rfl) u1
        obtain ⟨w, hw, rfl⟩ := List.mem_map.mp hz
        have := R2.2.2.1 w hw
        have := ht.lt
        omega
    refine wa_aloadV (pc := 109) (y := mJ26_removeTreeNode) dJ26_removeTreeNode_109 rfl (by first | exact rf_s _ | exact rf_n | exact rf_q _) ?_
    refine wa_ifnull (pc := 111) (y := mJ26_removeTreeNode) dJ26_removeTreeNode_111 ?_
    refine wa_iload_n (pc := 114) (y := mJ26_removeTreeNode) dJ26_removeTreeNode_114 rfl ?_
    refine wa_if_eq (pc := 115) 156 dJ26_removeTreeNode_115 rfl (fun hb115 => ?_) (fun hb115 => ?_)
    · exact tree _
    · have hmv := bI_n0 hb115
      refine wa_aloadV (pc := 118) (y := mJ26_removeTreeNode) dJ26_removeTreeNode_118 rfl (by first | exact rf_s _ | exact rf_n | exact rf_q _) ?_
      refine wf_get (k := 14) (l := 11) 8 dJ26_removeTreeNode_120 (by assumption) rfl q1616 (Or.inl rfl) (Nat.le_of_ble_eq_true rfl) (Nat.le_of_ble_eq_true rfl) (by (repeat (first | exact updF_self _ _ _ _ | (apply updF_i; · decide) | (apply updF_a; · first | assumption | (apply Ne.symm; assumption) | omega) | (apply newF_a; · first | assumption | (apply Ne.symm; assumption) | omega) | exact newL_self (by rfl) | exact newF_self (by rfl) | (apply cpyF_a; · first | assumption | (apply Ne.symm; assumption) | omega))) <;> first | assumption | rfl) ?_
      refine wa_ifnullV (pc := 123) 145 dJ26_removeTreeNode_123 rfl (by first | exact rf_s _ | exact rf_n | exact rf_q _) (fun hb123 => ?_) (fun a123 hb123 => ?_)
      · exact plain hmv _
      · refine wa_aloadV (pc := 126) (y := mJ26_removeTreeNode) dJ26_removeTreeNode_126 rfl (by first | exact rf_s _ | exact rf_n | exact rf_q _) ?_
        refine wf_get (k := 14) (l := 11) 7 dJ26_removeTreeNode_128 (by assumption) rfl q1615 (Or.inl rfl) (Nat.le_of_ble_eq_true rfl) (Nat.le_of_ble_eq_true rfl) (by (repeat (first | exact updF_self _ _ _ _ | (apply updF_i; · decide) | (apply updF_a; · first | assumption | (apply Ne.symm; assumption) | omega) | (apply newF_a; · first | assumption | (apply Ne.symm; assumption) | omega) | exact newL_self (by rfl) | exact newF_self (by rfl) | (apply cpyF_a; · first | assumption | (apply Ne.symm; assumption) | omega))) <;> first | assumption | rfl) ?_
        refine wa_dup (pc := 131) (y := mJ26_removeTreeNode) dJ26_removeTreeNode_131 (by first | rfl | exact rf_cat _) ?_
        refine wa_astoreV (pc := 132) (y := mJ26_removeTreeNode) dJ26_removeTreeNode_132 (Nat.le_of_ble_eq_true rfl) (by first | rfl | (simp [okst, rf_cat] <;> assumption)) (by first | exact rf_s _ | exact rf_n | exact rf_q _) ?_
        simp only [List.set_cons_zero, List.set_cons_succ]
        refine wa_ifnullV (pc := 134) 145 dJ26_removeTreeNode_134 rfl (by first | exact rf_s _ | exact rf_n | exact rf_q _) (fun hb134 => ?_) (fun a134 hb134 => ?_)
        · rw [hb134]
          exact plain hmv _
        · obtain ⟨y1, y2, y3, y4, y5⟩ := tl _ (t.lc t.1.1 hb134).1
          rw [hb134]
          refine wa_aloadV (pc := 137) (y := mJ26_removeTreeNode) dJ26_removeTreeNode_137 rfl (by first | exact rf_s _ | exact rf_n | exact rf_q _) ?_
          refine wf_get (k := 14) (l := 11) 7 dJ26_removeTreeNode_139 (by assumption) rfl q1615 (Or.inl rfl) (Nat.le_of_ble_eq_true rfl) (Nat.le_of_ble_eq_true rfl) (by (repeat (first | exact updF_self _ _ _ _ | (apply updF_i; · decide) | (apply updF_a; · first | assumption | (apply Ne.symm; assumption) | omega) | (apply newF_a; · first | assumption | (apply Ne.symm; assumption) | omega) | exact newL_self (by rfl) | exact newF_self (by rfl) | (apply cpyF_a; · first | assumption | (apply Ne.symm; assumption) | omega))) <;> first | assumption | rfl) ?_
          refine wa_ifnonnullV (pc := 142) 156 dJ26_removeTreeNode_142 rfl (by first | exact rf_s _ | exact rf_n | exact rf_q _) (fun a142 hb142 => ?_) (fun hb142 => ?_)
          · exact tree _
          · exact plain hmv _
  refine wa_aloadV (pc := 94) (y := mJ26_removeTreeNode) dJ26_removeTreeNode_94 rfl (by first | exact rf_s _ | exact rf_n | exact rf_q _) ?_
  refine wf_get (k := 14) (l := 11) 6 dJ26_removeTreeNode_96 (by assumption) rfl q1614 (Or.inl rfl) (Nat.le_of_ble_eq_true rfl) (Nat.le_of_ble_eq_true rfl) (by (repeat (first | exact updF_self _ _ _ _ | (apply updF_i; · decide) | (apply updF_a; · first | assumption | (apply Ne.symm; assumption) | omega) | (apply newF_a; · first | assumption | (apply Ne.symm; assumption) | omega) | exact newL_self (by rfl) | exact newF_self (by rfl) | (apply cpyF_a; · first | assumption | (apply Ne.symm; assumption) | omega))) <;> first | assumption | rfl) ?_
  refine wa_ifnullV (pc := 99) 109 dJ26_removeTreeNode_99 rfl (by first | exact rf_s _ | exact rf_n | exact rf_q _) (fun hb99 => ?_) (fun a99 hb99 => ?_)
  · have hr9 := ((t.2 f0 hf0).2.1 hb99).1
    subst hr9
    exact main _
  · refine wa_aloadV (pc := 102) (y := mJ26_removeTreeNode) dJ26_removeTreeNode_102 rfl (by first | exact rf_s _ | exact rf_n | exact rf_q _) ?_
    refine wa_callV (pc := 104) (s_J26_root (d := d - 1) t tl hf0) dJ26_removeTreeNode_104 okJ26_root q884 q885 q886 (sF_at (by assumption)) rfl rfl rfl (Nat.le_of_ble_eq_true rfl) (Nat.le_of_ble_eq_true rfl) (by omega) ?_
    rintro _ _ - - ⟨rfl, rfl⟩
    refine aft_v (pc2 := 107) ?_ rfl
    refine wa_astoreV (pc := 107) (y := mJ26_removeTreeNode) dJ26_removeTreeNode_107 (Nat.le_of_ble_eq_true rfl) (by first | rfl | (simp [okst, rf_cat] <;> assumption)) (by first | exact rf_s _ | exact rf_n | exact rf_q _) ?_
    simp only [List.set_cons_zero, List.set_cons_succ]
    exact main _
theorem s_J26_removeTreeNode (hd : 5 ≤ d) (hG : StG G) (hm : Is h m 12 12) (lo0 : LO F m ns) (hnn : ns.Nodup) (hN : ∀ z, z ∈ ns → Nd h z) (ht : Is h tb 36 (2 ^ k)) (hk : k < 16) (hB : B = a ++ p :: b) (hn : B.Nodup) (hsub : ∀ z, z ∈ B → z ∈ ns) (hI : ∀ z, z ∈ B → Is h z 14 11) (nk : ∀ z, z ∈ B → NK h F z (κ z)) (hv : ∀ z, z ∈ B → ∃ v, F z 2 = .ref v)
    (hinj : ∀ a b, a ∈ B → b ∈ B → κ a = κ b → a = b) (hmod : ∀ z, z ∈ B → κ z % 2 ^ k = bi) (hs : F tb bi = va_rf B.head?) (tb0 : TBin h F B κ) :
    MA G d mJ26_removeTreeNode [.ref p, .ref m, .ref tb, .int (bI mv)] (sF h F) (RtQ h F m tb bi ns B (a ++ b) κ mv) := by
  obtain ⟨dl, root, L, R, P, C, lo, hi, rk, M, t, tl⟩ := tb0
  have hk2 : 2 ^ k < 2 ^ 16 := Nat.pow_lt_pow_right (by decide) hk
  have hk0 : 0 < 2 ^ k := Nat.two_pow_pos k
  have hp : p ∈ B := by rw [hB]; simp
  have hbi : bi < 2 ^ k := by rw [← hmod p hp]; exact Nat.mod_lt _ hk0
  have hpI := hI p hp
  obtain ⟨e0, kq, e1, hK⟩ := nk p hp
  have hκp := hK.2.2.2
  have hmp := hmod p hp
  have htns : tb ∉ ns := fun e => (hN tb e).ne ht (by decide) (by decide) rfl
  have htm : tb ≠ m := ht.ne hm (by decide)
  have hnm : ∀ z, z ∈ B → z ≠ m := fun z hz => (hI z hz).ne hm (by decide)
  have hnt : ∀ z, z ∈ B → z ≠ tb := fun z hz => (hI z hz).ne ht (by decide)
  have e3 : F p 3 = va_rf b.head? := by rw [hB] at dl; exact dl.fwd
  have e9 : F p 9 = va_rf a.getLast? := by rw [hB] at dl; exact dl.bwd
  have hn2 : (∀ z, z ∈ a → z ≠ p ∧ z ∉ b) ∧ ∀ z, z ∈ b → z ≠ p ∧ z ∉ a := by rw [hB] at hn; grind [List.nodup_append]
  have haB : ∀ z, z ∈ a → z ∈ B := fun z hz => by rw [hB]; simp [hz]
  have hbB : ∀ z, z ∈ b → z ∈ B := fun z hz => by rw [hB]; simp [hz]
  have hgN : ∀ z, b.head? = some z → Is h z 14 11 := fun z hz => hI z (hbB z (head_mem hz))
  have hBh : ∃ f0, B.head? = some f0 := by rw [hB]; cases a <;> exact ⟨_, rfl⟩
  obtain ⟨f0, hf0⟩ := hBh
  have hf0B := head_mem hf0
  have hf0I := hI f0 hf0B
  rw [hf0] at hs
  have h94 : ∀ (F1 : Nat → Nat → Value) (f1 : Nat) (v8 v9 v10 v11 v12 v13 v14 v15 v16 v17 v18 v19 v20 : Value), v9.category = 1 → v10.category = 1 → v13.category = 1 → v14.category = 1 → v15.category = 1 → v18.category = 1 → (a ++ b).head? = some f1 → F1 tb bi = .ref f1 → DL F1 3 9 (a ++ b) → FrP (fun z j => z = tb ∧ j = bi ∨ z ∈ B ∧ (j = 3 ∨ j = 9)) F F1 →
      WA G d mJ26_removeTreeNode 94 [.ref p, .ref m, .ref tb, .int (bI mv), .int (Int32.ofNat (2 ^ k)), .int (Int32.ofNat bi), .ref f1, .ref f0, v8, v9, v10, v11, v12, v13, v14, v15, v16, v17, v18, v19, v20] [] (sF h F1) (RtQ h F m tb bi ns B (a ++ b) κ mv) := by
    intro F1 f1 v8 v9 v10 v11 v12 v13 v14 v15 v16 v17 v18 v19 v20 c9 c10 c13 c14 c15 c18 hf1 hs1 dl1 fr
    have fz : ∀ z j, z ∈ B → j ≠ 3 ∧ j ≠ 9 → F1 z j = F z j := fun z j hz hj => fr z j fun e => e.elim (fun e => hnt z hz e.1) (fun e => by omega)
    refine rt_94 hd hG hm (lo0.congr ?_ ?_ (fun z hz => ?_) (fun z hz => ?_)) hnn hN ht hk hbi hB hn hsub hI (fun z hz => ?_) (fun z hz => ?_) hinj hmod (by rw [hf1]; exact hs1) hf1 hf0B dl1 t (tl.congr fun z j hz hj => fz z j hz (by omega)) (fr.mono fun z j hz => hz.imp id fun hz => ⟨hz.1, by omega⟩) c9 c10 c13 c14 c15 c18
    · exact fr m 8 fun e => e.elim (fun e => htm e.1.symm) (fun e => hnm m e.1 rfl)
    · exact fr m 9 fun e => e.elim (fun e => htm e.1.symm) (fun e => hnm m e.1 rfl)
    · exact fr z 4 fun e => e.elim (fun e => htns (e.1 ▸ hz)) (fun e => by omega)
    · exact fr z 5 fun e => e.elim (fun e => htns (e.1 ▸ hz)) (fun e => by omega)
    · exact (nk z hz).congr (fz z 0 hz (by decide)) (fz z 1 hz (by decide)) (fun q j hq => fr q j fun e => e.elim (fun e => (hq.ne ht (by decide)) e.1) (fun e => hq.ne (hI q e.1) (by decide) rfl))
    · obtain ⟨v, hv2⟩ := hv z hz
      exact ⟨v, (fz z 2 hz (by decide)).trans hv2⟩
  change WA G d mJ26_removeTreeNode 0 [.ref p, .ref m, .ref tb, .int (bI mv), .retAddr 0, .retAddr 0, .retAddr 0, .retAddr 0, .retAddr 0, .retAddr 0, .retAddr 0, .retAddr 0, .retAddr 0, .retAddr 0, .retAddr 0, .retAddr 0, .retAddr 0, .retAddr 0, .retAddr 0, .retAddr 0, .retAddr 0] [] _ _
  subst hB
  refine wa_aloadV_n (pc := 0) (y := mJ26_removeTreeNode) dJ26_removeTreeNode_0 rfl (by first | exact rf_s _ | exact rf_n | exact rf_q _) ?_
  refine wa_ifnull (pc := 1) (y := mJ26_removeTreeNode) dJ26_removeTreeNode_1 ?_
  refine wa_aloadV_n (pc := 4) (y := mJ26_removeTreeNode) dJ26_removeTreeNode_4 rfl (by first | exact rf_s _ | exact rf_n | exact rf_q _) ?_
  refine wf_alen dJ26_removeTreeNode_5 (by assumption) (by decide) ?_
  refine wa_dup (pc := 6) (y := mJ26_removeTreeNode) dJ26_removeTreeNode_6 (by first | rfl | exact rf_cat _) ?_
  refine wa_istore (pc := 7) (y := mJ26_removeTreeNode) dJ26_removeTreeNode_7 (Nat.le_of_ble_eq_true rfl) (by first | rfl | (simp [okst, rf_cat] <;> assumption)) ?_
  simp only [List.set_cons_zero, List.set_cons_succ]
  refine wa_if_ne (pc := 9) 13 dJ26_removeTreeNode_9 rfl (fun hb9 => ?_) (fun hb9 => absurd hb9 (fun e => by have := (iN_eq0 (by omega)).mp e; omega))
  refine wa_iload (pc := 13) (y := mJ26_removeTreeNode) dJ26_removeTreeNode_13 rfl ?_
  refine wa_iconst (pc := 15) (y := mJ26_removeTreeNode) (Int32.ofNat 1) dJ26_removeTreeNode_15 rfl ?_
  refine wa_isub (pc := 16) (y := mJ26_removeTreeNode) dJ26_removeTreeNode_16 ?_
  rw [iN_sub (by omega)]
  refine wa_aloadV_n (pc := 17) (y := mJ26_removeTreeNode) dJ26_removeTreeNode_17 rfl (by first | exact rf_s _ | exact rf_n | exact rf_q _) ?_
  refine wf_get (k := 14) (l := 11) 0 dJ26_removeTreeNode_18 (by assumption) rfl q1314 (Or.inr q1315) (Nat.le_of_ble_eq_true rfl) (Nat.le_of_ble_eq_true rfl) (by (repeat (first | exact updF_self _ _ _ _ | (apply updF_i; · decide) | (apply updF_a; · first | assumption | (apply Ne.symm; assumption) | omega) | (apply newF_a; · first | assumption | (apply Ne.symm; assumption) | omega) | exact newL_self (by rfl) | exact newF_self (by rfl) | (apply cpyF_a; · first | assumption | (apply Ne.symm; assumption) | omega))) <;> first | assumption | rfl) ?_
  refine wa_iand (pc := 21) (y := mJ26_removeTreeNode) dJ26_removeTreeNode_21 ?_
  rw [iN_and, and_mod, hmp]
  refine wa_istore (pc := 22) (y := mJ26_removeTreeNode) dJ26_removeTreeNode_22 (Nat.le_of_ble_eq_true rfl) (by first | rfl | (simp [okst, rf_cat] <;> assumption)) ?_
  simp only [List.set_cons_zero, List.set_cons_succ]
  refine wa_aloadV_n (pc := 24) (y := mJ26_removeTreeNode) dJ26_removeTreeNode_24 rfl (by first | exact rf_s _ | exact rf_n | exact rf_q _) ?_
  refine wa_iload (pc := 25) (y := mJ26_removeTreeNode) dJ26_removeTreeNode_25 rfl ?_
  refine wf_aaload dJ26_removeTreeNode_27 (by assumption) (by first | exact Or.inl rfl | exact Or.inr rfl) (by omega) (by (repeat (first | exact updF_self _ _ _ _ | (apply updF_i; · decide) | (apply updF_a; · first | assumption | (apply Ne.symm; assumption) | omega) | (apply newF_a; · first | assumption | (apply Ne.symm; assumption) | omega) | exact newL_self (by rfl) | exact newF_self (by rfl) | (apply cpyF_a; · first | assumption | (apply Ne.symm; assumption) | omega))) <;> first | assumption | rfl) ?_
  refine wa_castS (pc := 28) (y := mJ26_removeTreeNode) (k := 14) dJ26_removeTreeNode_28 (sF_at (by assumption)) rfl q1290 ?_
  refine wa_astoreV (pc := 31) (y := mJ26_removeTreeNode) dJ26_removeTreeNode_31 (Nat.le_of_ble_eq_true rfl) (by first | rfl | (simp [okst, rf_cat] <;> assumption)) (by first | exact rf_s _ | exact rf_n | exact rf_q _) ?_
  simp only [List.set_cons_zero, List.set_cons_succ]
  refine wa_aloadV (pc := 33) (y := mJ26_removeTreeNode) dJ26_removeTreeNode_33 rfl (by first | exact rf_s _ | exact rf_n | exact rf_q _) ?_
  refine wa_astoreV (pc := 35) (y := mJ26_removeTreeNode) dJ26_removeTreeNode_35 (Nat.le_of_ble_eq_true rfl) (by first | rfl | (simp [okst, rf_cat] <;> assumption)) (by first | exact rf_s _ | exact rf_n | exact rf_q _) ?_
  simp only [List.set_cons_zero, List.set_cons_succ]
  refine wa_aloadV_n (pc := 37) (y := mJ26_removeTreeNode) dJ26_removeTreeNode_37 rfl (by first | exact rf_s _ | exact rf_n | exact rf_q _) ?_
  refine wf_get (k := 14) (l := 11) 3 dJ26_removeTreeNode_38 (by assumption) rfl q1334 (Or.inr q1335) (Nat.le_of_ble_eq_true rfl) (Nat.le_of_ble_eq_true rfl) (by (repeat (first | exact updF_self _ _ _ _ | (apply updF_i; · decide) | (apply updF_a; · first | assumption | (apply Ne.symm; assumption) | omega) | (apply newF_a; · first | assumption | (apply Ne.symm; assumption) | omega) | exact newL_self (by rfl) | exact newF_self (by rfl) | (apply cpyF_a; · first | assumption | (apply Ne.symm; assumption) | omega))) <;> first | assumption | rfl) ?_
  refine wn_castq dJ26_removeTreeNode_41 (by first | exact rf_s _ | exact rf_n | exact rf_q _) hgN q1290 ?_
  refine wa_astoreV (pc := 44) (y := mJ26_removeTreeNode) dJ26_removeTreeNode_44 (Nat.le_of_ble_eq_true rfl) (by first | rfl | (simp [okst, rf_cat] <;> assumption)) (by first | exact rf_s _ | exact rf_n | exact rf_q _) ?_
  simp only [List.set_cons_zero, List.set_cons_succ]
  refine wa_aloadV_n (pc := 46) (y := mJ26_removeTreeNode) dJ26_removeTreeNode_46 rfl (by first | exact rf_s _ | exact rf_n | exact rf_q _) ?_
  refine wf_get (k := 14) (l := 11) 9 dJ26_removeTreeNode_47 (by assumption) rfl q1617 (Or.inl rfl) (Nat.le_of_ble_eq_true rfl) (Nat.le_of_ble_eq_true rfl) (by (repeat (first | exact updF_self _ _ _ _ | (apply updF_i; · decide) | (apply updF_a; · first | assumption | (apply Ne.symm; assumption) | omega) | (apply newF_a; · first | assumption | (apply Ne.symm; assumption) | omega) | exact newL_self (by rfl) | exact newF_self (by rfl) | (apply cpyF_a; · first | assumption | (apply Ne.symm; assumption) | omega))) <;> first | assumption | rfl) ?_
  refine wa_astoreV (pc := 50) (y := mJ26_removeTreeNode) dJ26_removeTreeNode_50 (Nat.le_of_ble_eq_true rfl) (by first | rfl | (simp [okst, rf_cat] <;> assumption)) (by first | exact rf_s _ | exact rf_n | exact rf_q _) ?_
  simp only [List.set_cons_zero, List.set_cons_succ]
  refine wa_aloadV (pc := 52) (y := mJ26_removeTreeNode) dJ26_removeTreeNode_52 rfl (by first | exact rf_s _ | exact rf_n | exact rf_q _) ?_
  refine wa_ifnonnullV (pc := 54) 69 dJ26_removeTreeNode_54 rfl (by first | exact rf_s _ | exact rf_n | exact rf_q _) (fun a54 hb54 => ?_) (fun hb54 => ?_)
  · have ha := getLast_mem hb54
    have haI := hI _ (haB _ ha)
    have hat := hnt _ (haB _ ha)
    rw [hb54]
    refine wa_aloadV (pc := 69) (y := mJ26_removeTreeNode) dJ26_removeTreeNode_69 rfl (by first | exact rf_s _ | exact rf_n | exact rf_q _) ?_
    refine wa_aloadV (pc := 71) (y := mJ26_removeTreeNode) dJ26_removeTreeNode_71 rfl (by first | exact rf_s _ | exact rf_n | exact rf_q _) ?_
    refine wf_put (k := 14) (l := 11) 3 (.object "java/util/HashMap$Node") dJ26_removeTreeNode_73 (by assumption) rfl q1334 (Or.inr q1335) (Nat.le_of_ble_eq_true rfl) rfl (by decide +kernel) (by first | rfl | exact rf_nar _ | exact rf_nar2 _) (by first | rfl | exact rf_fit _ | exact rf_fit2 _) ?_
    refine wa_aloadV (pc := 76) (y := mJ26_removeTreeNode) dJ26_removeTreeNode_76 rfl (by first | exact rf_s _ | exact rf_n | exact rf_q _) ?_
    refine wa_ifnullV (pc := 78) 88 dJ26_removeTreeNode_78 rfl (by first | exact rf_s _ | exact rf_n | exact rf_q _) (fun hb78 => ?_) (fun a78 hb78 => ?_)
    · have hg := head_none hb78
      rw [hb78]
      refine wa_aloadV (pc := 88) (y := mJ26_removeTreeNode) dJ26_removeTreeNode_88 rfl (by first | exact rf_s _ | exact rf_n | exact rf_q _) ?_
      refine wa_ifnonnullV (pc := 90) 94 dJ26_removeTreeNode_90 rfl (by first | exact rf_s _ | exact rf_n | exact rf_q _) (fun a90 hb90 => ?_) (fun hb90 => ?_)
      · first | (cases hb90; done) | exact h94 _ _ _ _ _ _ _ _ _ _ _ _ _ _ _ (rf_cat _) (rf_cat _) rfl rfl rfl rfl (by have h8 := hf0; clear h94; cases a <;> simp_all) (by clear h94 t tl nk hv hinj hmod hI hsub hn hnn hN hgN lo0; grind (splits := 30) (gen := 20) (ematch := 20) [updF_eq, va_rf]) (DL.splice (c := [p]) (c2 := []) dl hn (fun z hz => by have q1 := hnt z; have q2 := haB z; have q3 := hbB z; have q4 := hn2.1 z; have q5 := hn2.2 z; clear h94 t tl nk hv hinj hmod hI hsub hn hnn hN hgN lo0; grind (splits := 30) (gen := 20) (ematch := 20) [updF_eq, va_rf]) (fun z hz => by have q1 := hnt z; have q2 := haB z; have q3 := hbB z; have q4 := hn2.1 z; have q5 := hn2.2 z; clear h94 t tl nk hv hinj hmod hI hsub hn hnn hN hgN lo0; grind (splits := 30) (gen := 20) (ematch := 20) [updF_eq, va_rf]) (fun z hz => by have q1 := hnt z; have q2 := haB z; have q3 := hbB z; have q4 := hn2.1 z; have q5 := hn2.2 z; clear h94 t tl nk hv hinj hmod hI hsub hn hnn hN hgN lo0; grind (splits := 30) (gen := 20) (ematch := 20) [updF_eq, va_rf]) (fun z hz => by have q1 := hnt z; have q2 := haB z; have q3 := hbB z; have q4 := hn2.1 z; have q5 := hn2.2 z; clear h94 t tl nk hv hinj hmod hI hsub hn hnn hN hgN lo0; grind (splits := 30) (gen := 20) (ematch := 20) [updF_eq, va_rf]) trivial trivial) (by repeat (first | exact FrP.refl | refine FrP.upd ?_ (by first | exact Or.inl ⟨rfl, rfl⟩ | exact Or.inr ⟨haB _ ha, by decide⟩ | exact Or.inr ⟨hbB _ hg, by decide⟩))) | exact h94 _ _ _ _ _ _ _ _ _ _ _ _ _ _ _ (rf_cat _) (rf_cat _) rfl rfl rfl rfl (by rw [ha]; exact hb78) (by clear h94 t tl nk hv hinj hmod hI hsub hn hnn hN hgN lo0; grind (splits := 30) (gen := 20) (ematch := 20) [updF_eq, va_rf]) (DL.splice (c := [p]) (c2 := []) dl hn (fun z hz => by have q1 := hnt z; have q2 := haB z; have q3 := hbB z; have q4 := hn2.1 z; have q5 := hn2.2 z; clear h94 t tl nk hv hinj hmod hI hsub hn hnn hN hgN lo0; grind (splits := 30) (gen := 20) (ematch := 20) [updF_eq, va_rf]) (fun z hz => by have q1 := hnt z; have q2 := haB z; have q3 := hbB z; have q4 := hn2.1 z; have q5 := hn2.2 z; clear h94 t tl nk hv hinj hmod hI hsub hn hnn hN hgN lo0; grind (splits := 30) (gen := 20) (ematch := 20) [updF_eq, va_rf]) (fun z hz => by have q1 := hnt z; have q2 := haB z; have q3 := hbB z; have q4 := hn2.1 z; have q5 := hn2.2 z; clear h94 t tl nk hv hinj hmod hI hsub hn hnn hN hgN lo0; grind (splits := 30) (gen := 20) (ematch := 20) [updF_eq, va_rf]) (fun z hz => by have q1 := hnt z; have q2 := haB z; have q3 := hbB z; have q4 := hn2.1 z; have q5 := hn2.2 z; clear h94 t tl nk hv hinj hmod hI hsub hn hnn hN hgN lo0; grind (splits := 30) (gen := 20) (ematch := 20) [updF_eq, va_rf]) trivial trivial) (by repeat (first | exact FrP.refl | refine FrP.upd ?_ (by first | exact Or.inl ⟨rfl, rfl⟩ | exact Or.inr ⟨haB _ ha, by decide⟩ | exact Or.inr ⟨hbB _ hg, by decide⟩)))
      · refine wa_return (pc := 93) (y := mJ26_removeTreeNode) dJ26_removeTreeNode_93 rfl (by first | (cases hb90; done) | exact ⟨rfl, Or.inl ⟨by rw [ha, hg]; rfl, _, rfl, (by clear h94 t tl nk hv hinj hmod hI hsub hn hnn hN hgN lo0; grind (splits := 30) (gen := 20) (ematch := 20) [updF_eq, va_rf]), (by repeat (first | exact FrP.refl | refine FrP.upd ?_ (by first | exact Or.inl ⟨rfl, rfl⟩ | exact Or.inr ⟨haB _ ha, by decide⟩ | exact Or.inr ⟨hbB _ hg, by decide⟩)))⟩⟩)
    · have hg := head_mem hb78
      have hgI := hI _ (hbB _ hg)
      have hgt := hnt _ (hbB _ hg)
      rw [hb78]
      refine wa_aloadV (pc := 81) (y := mJ26_removeTreeNode) dJ26_removeTreeNode_81 rfl (by first | exact rf_s _ | exact rf_n | exact rf_q _) ?_
      refine wa_aloadV (pc := 83) (y := mJ26_removeTreeNode) dJ26_removeTreeNode_83 rfl (by first | exact rf_s _ | exact rf_n | exact rf_q _) ?_
      refine wf_put (k := 14) (l := 11) 9 (.object "java/util/HashMap$TreeNode") dJ26_removeTreeNode_85 (by assumption) rfl q1617 (Or.inl rfl) (Nat.le_of_ble_eq_true rfl) rfl (by decide +kernel) (by first | rfl | exact rf_nar _ | exact rf_nar2 _) (by first | rfl | exact rf_fit _ | exact rf_fit2 _) ?_
      refine wa_aloadV (pc := 88) (y := mJ26_removeTreeNode) dJ26_removeTreeNode_88 rfl (by first | exact rf_s _ | exact rf_n | exact rf_q _) ?_
      refine wa_ifnonnullV (pc := 90) 94 dJ26_removeTreeNode_90 rfl (by first | exact rf_s _ | exact rf_n | exact rf_q _) (fun a90 hb90 => ?_) (fun hb90 => ?_)
      · first | (cases hb90; done) | exact h94 _ _ _ _ _ _ _ _ _ _ _ _ _ _ _ (rf_cat _) (rf_cat _) rfl rfl rfl rfl (by have h8 := hf0; clear h94; cases a <;> simp_all) (by clear h94 t tl nk hv hinj hmod hI hsub hn hnn hN hgN lo0; grind (splits := 30) (gen := 20) (ematch := 20) [updF_eq, va_rf]) (DL.splice (c := [p]) (c2 := []) dl hn (fun z hz => by have q1 := hnt z; have q2 := haB z; have q3 := hbB z; have q4 := hn2.1 z; have q5 := hn2.2 z; clear h94 t tl nk hv hinj hmod hI hsub hn hnn hN hgN lo0; grind (splits := 30) (gen := 20) (ematch := 20) [updF_eq, va_rf]) (fun z hz => by have q1 := hnt z; have q2 := haB z; have q3 := hbB z; have q4 := hn2.1 z; have q5 := hn2.2 z; clear h94 t tl nk hv hinj hmod hI hsub hn hnn hN hgN lo0; grind (splits := 30) (gen := 20) (ematch := 20) [updF_eq, va_rf]) (fun z hz => by have q1 := hnt z; have q2 := haB z; have q3 := hbB z; have q4 := hn2.1 z; have q5 := hn2.2 z; clear h94 t tl nk hv hinj hmod hI hsub hn hnn hN hgN lo0; grind (splits := 30) (gen := 20) (ematch := 20) [updF_eq, va_rf]) (fun z hz => by have q1 := hnt z; have q2 := haB z; have q3 := hbB z; have q4 := hn2.1 z; have q5 := hn2.2 z; clear h94 t tl nk hv hinj hmod hI hsub hn hnn hN hgN lo0; grind (splits := 30) (gen := 20) (ematch := 20) [updF_eq, va_rf]) trivial trivial) (by repeat (first | exact FrP.refl | refine FrP.upd ?_ (by first | exact Or.inl ⟨rfl, rfl⟩ | exact Or.inr ⟨haB _ ha, by decide⟩ | exact Or.inr ⟨hbB _ hg, by decide⟩))) | exact h94 _ _ _ _ _ _ _ _ _ _ _ _ _ _ _ (rf_cat _) (rf_cat _) rfl rfl rfl rfl (by rw [ha]; exact hb78) (by clear h94 t tl nk hv hinj hmod hI hsub hn hnn hN hgN lo0; grind (splits := 30) (gen := 20) (ematch := 20) [updF_eq, va_rf]) (DL.splice (c := [p]) (c2 := []) dl hn (fun z hz => by have q1 := hnt z; have q2 := haB z; have q3 := hbB z; have q4 := hn2.1 z; have q5 := hn2.2 z; clear h94 t tl nk hv hinj hmod hI hsub hn hnn hN hgN lo0; grind (splits := 30) (gen := 20) (ematch := 20) [updF_eq, va_rf]) (fun z hz => by have q1 := hnt z; have q2 := haB z; have q3 := hbB z; have q4 := hn2.1 z; have q5 := hn2.2 z; clear h94 t tl nk hv hinj hmod hI hsub hn hnn hN hgN lo0; grind (splits := 30) (gen := 20) (ematch := 20) [updF_eq, va_rf]) (fun z hz => by have q1 := hnt z; have q2 := haB z; have q3 := hbB z; have q4 := hn2.1 z; have q5 := hn2.2 z; clear h94 t tl nk hv hinj hmod hI hsub hn hnn hN hgN lo0; grind (splits := 30) (gen := 20) (ematch := 20) [updF_eq, va_rf]) (fun z hz => by have q1 := hnt z; have q2 := haB z; have q3 := hbB z; have q4 := hn2.1 z; have q5 := hn2.2 z; clear h94 t tl nk hv hinj hmod hI hsub hn hnn hN hgN lo0; grind (splits := 30) (gen := 20) (ematch := 20) [updF_eq, va_rf]) trivial trivial) (by repeat (first | exact FrP.refl | refine FrP.upd ?_ (by first | exact Or.inl ⟨rfl, rfl⟩ | exact Or.inr ⟨haB _ ha, by decide⟩ | exact Or.inr ⟨hbB _ hg, by decide⟩)))
      · refine wa_return (pc := 93) (y := mJ26_removeTreeNode) dJ26_removeTreeNode_93 rfl (by first | (cases hb90; done) | exact ⟨rfl, Or.inl ⟨by rw [ha, hg]; rfl, _, rfl, (by clear h94 t tl nk hv hinj hmod hI hsub hn hnn hN hgN lo0; grind (splits := 30) (gen := 20) (ematch := 20) [updF_eq, va_rf]), (by repeat (first | exact FrP.refl | refine FrP.upd ?_ (by first | exact Or.inl ⟨rfl, rfl⟩ | exact Or.inr ⟨haB _ ha, by decide⟩ | exact Or.inr ⟨hbB _ hg, by decide⟩)))⟩⟩)
  · have ha := getLast_none hb54
    rw [hb54]
    refine wa_aloadV_n (pc := 57) (y := mJ26_removeTreeNode) dJ26_removeTreeNode_57 rfl (by first | exact rf_s _ | exact rf_n | exact rf_q _) ?_
    refine wa_iload (pc := 58) (y := mJ26_removeTreeNode) dJ26_removeTreeNode_58 rfl ?_
    refine wa_aloadV (pc := 60) (y := mJ26_removeTreeNode) dJ26_removeTreeNode_60 rfl (by first | exact rf_s _ | exact rf_n | exact rf_q _) ?_
    refine wa_dup (pc := 62) (y := mJ26_removeTreeNode) dJ26_removeTreeNode_62 (by first | rfl | exact rf_cat _) ?_
    refine wa_astoreV (pc := 63) (y := mJ26_removeTreeNode) dJ26_removeTreeNode_63 (Nat.le_of_ble_eq_true rfl) (by first | rfl | (simp [okst, rf_cat] <;> assumption)) (by first | exact rf_s _ | exact rf_n | exact rf_q _) ?_
    simp only [List.set_cons_zero, List.set_cons_succ]
    refine wf_aastoreV (pc := 65) (y := mJ26_removeTreeNode) "java/util/HashMap$Node" dJ26_removeTreeNode_65 ht (Or.inr ⟨rfl, rfl⟩) (by omega) (rf_q _) (fun z hz => Nd.stor (Or.inr (hgN z hz))) ?_
    refine wa_goto (pc := 66) (y := mJ26_removeTreeNode) 76 dJ26_removeTreeNode_66 rfl ?_
    refine wa_aloadV (pc := 76) (y := mJ26_removeTreeNode) dJ26_removeTreeNode_76 rfl (by first | exact rf_s _ | exact rf_n | exact rf_q _) ?_
    refine wa_ifnullV (pc := 78) 88 dJ26_removeTreeNode_78 rfl (by first | exact rf_s _ | exact rf_n | exact rf_q _) (fun hb78 => ?_) (fun a78 hb78 => ?_)
    · have hg := head_none hb78
      rw [hb78]
      refine wa_aloadV (pc := 88) (y := mJ26_removeTreeNode) dJ26_removeTreeNode_88 rfl (by first | exact rf_s _ | exact rf_n | exact rf_q _) ?_
      refine wa_ifnonnullV (pc := 90) 94 dJ26_removeTreeNode_90 rfl (by first | exact rf_s _ | exact rf_n | exact rf_q _) (fun a90 hb90 => ?_) (fun hb90 => ?_)
      · first | (cases hb90; done) | exact h94 _ _ _ _ _ _ _ _ _ _ _ _ _ _ _ (rf_cat _) (rf_cat _) rfl rfl rfl rfl (by have h8 := hf0; clear h94; cases a <;> simp_all) (by clear h94 t tl nk hv hinj hmod hI hsub hn hnn hN hgN lo0; grind (splits := 30) (gen := 20) (ematch := 20) [updF_eq, va_rf]) (DL.splice (c := [p]) (c2 := []) dl hn (fun z hz => by have q1 := hnt z; have q2 := haB z; have q3 := hbB z; have q4 := hn2.1 z; have q5 := hn2.2 z; clear h94 t tl nk hv hinj hmod hI hsub hn hnn hN hgN lo0; grind (splits := 30) (gen := 20) (ematch := 20) [updF_eq, va_rf]) (fun z hz => by have q1 := hnt z; have q2 := haB z; have q3 := hbB z; have q4 := hn2.1 z; have q5 := hn2.2 z; clear h94 t tl nk hv hinj hmod hI hsub hn hnn hN hgN lo0; grind (splits := 30) (gen := 20) (ematch := 20) [updF_eq, va_rf]) (fun z hz => by have q1 := hnt z; have q2 := haB z; have q3 := hbB z; have q4 := hn2.1 z; have q5 := hn2.2 z; clear h94 t tl nk hv hinj hmod hI hsub hn hnn hN hgN lo0; grind (splits := 30) (gen := 20) (ematch := 20) [updF_eq, va_rf]) (fun z hz => by have q1 := hnt z; have q2 := haB z; have q3 := hbB z; have q4 := hn2.1 z; have q5 := hn2.2 z; clear h94 t tl nk hv hinj hmod hI hsub hn hnn hN hgN lo0; grind (splits := 30) (gen := 20) (ematch := 20) [updF_eq, va_rf]) trivial trivial) (by repeat (first | exact FrP.refl | refine FrP.upd ?_ (by first | exact Or.inl ⟨rfl, rfl⟩ | exact Or.inr ⟨haB _ ha, by decide⟩ | exact Or.inr ⟨hbB _ hg, by decide⟩))) | exact h94 _ _ _ _ _ _ _ _ _ _ _ _ _ _ _ (rf_cat _) (rf_cat _) rfl rfl rfl rfl (by rw [ha]; exact hb78) (by clear h94 t tl nk hv hinj hmod hI hsub hn hnn hN hgN lo0; grind (splits := 30) (gen := 20) (ematch := 20) [updF_eq, va_rf]) (DL.splice (c := [p]) (c2 := []) dl hn (fun z hz => by have q1 := hnt z; have q2 := haB z; have q3 := hbB z; have q4 := hn2.1 z; have q5 := hn2.2 z; clear h94 t tl nk hv hinj hmod hI hsub hn hnn hN hgN lo0; grind (splits := 30) (gen := 20) (ematch := 20) [updF_eq, va_rf]) (fun z hz => by have q1 := hnt z; have q2 := haB z; have q3 := hbB z; have q4 := hn2.1 z; have q5 := hn2.2 z; clear h94 t tl nk hv hinj hmod hI hsub hn hnn hN hgN lo0; grind (splits := 30) (gen := 20) (ematch := 20) [updF_eq, va_rf]) (fun z hz => by have q1 := hnt z; have q2 := haB z; have q3 := hbB z; have q4 := hn2.1 z; have q5 := hn2.2 z; clear h94 t tl nk hv hinj hmod hI hsub hn hnn hN hgN lo0; grind (splits := 30) (gen := 20) (ematch := 20) [updF_eq, va_rf]) (fun z hz => by have q1 := hnt z; have q2 := haB z; have q3 := hbB z; have q4 := hn2.1 z; have q5 := hn2.2 z; clear h94 t tl nk hv hinj hmod hI hsub hn hnn hN hgN lo0; grind (splits := 30) (gen := 20) (ematch := 20) [updF_eq, va_rf]) trivial trivial) (by repeat (first | exact FrP.refl | refine FrP.upd ?_ (by first | exact Or.inl ⟨rfl, rfl⟩ | exact Or.inr ⟨haB _ ha, by decide⟩ | exact Or.inr ⟨hbB _ hg, by decide⟩)))
      · refine wa_return (pc := 93) (y := mJ26_removeTreeNode) dJ26_removeTreeNode_93 rfl (by first | (cases hb90; done) | exact ⟨rfl, Or.inl ⟨by rw [ha, hg]; rfl, _, rfl, (by clear h94 t tl nk hv hinj hmod hI hsub hn hnn hN hgN lo0; grind (splits := 30) (gen := 20) (ematch := 20) [updF_eq, va_rf]), (by repeat (first | exact FrP.refl | refine FrP.upd ?_ (by first | exact Or.inl ⟨rfl, rfl⟩ | exact Or.inr ⟨haB _ ha, by decide⟩ | exact Or.inr ⟨hbB _ hg, by decide⟩)))⟩⟩)
    · have hg := head_mem hb78
      have hgI := hI _ (hbB _ hg)
      have hgt := hnt _ (hbB _ hg)
      rw [hb78]
      refine wa_aloadV (pc := 81) (y := mJ26_removeTreeNode) dJ26_removeTreeNode_81 rfl (by first | exact rf_s _ | exact rf_n | exact rf_q _) ?_
      refine wa_aloadV (pc := 83) (y := mJ26_removeTreeNode) dJ26_removeTreeNode_83 rfl (by first | exact rf_s _ | exact rf_n | exact rf_q _) ?_
      refine wf_put (k := 14) (l := 11) 9 (.object "java/util/HashMap$TreeNode") dJ26_removeTreeNode_85 (by assumption) rfl q1617 (Or.inl rfl) (Nat.le_of_ble_eq_true rfl) rfl (by decide +kernel) (by first | rfl | exact rf_nar _ | exact rf_nar2 _) (by first | rfl | exact rf_fit _ | exact rf_fit2 _) ?_
      refine wa_aloadV (pc := 88) (y := mJ26_removeTreeNode) dJ26_removeTreeNode_88 rfl (by first | exact rf_s _ | exact rf_n | exact rf_q _) ?_
      refine wa_ifnonnullV (pc := 90) 94 dJ26_removeTreeNode_90 rfl (by first | exact rf_s _ | exact rf_n | exact rf_q _) (fun a90 hb90 => ?_) (fun hb90 => ?_)
      · first | (cases hb90; done) | exact h94 _ _ _ _ _ _ _ _ _ _ _ _ _ _ _ (rf_cat _) (rf_cat _) rfl rfl rfl rfl (by have h8 := hf0; clear h94; cases a <;> simp_all) (by clear h94 t tl nk hv hinj hmod hI hsub hn hnn hN hgN lo0; grind (splits := 30) (gen := 20) (ematch := 20) [updF_eq, va_rf]) (DL.splice (c := [p]) (c2 := []) dl hn (fun z hz => by have q1 := hnt z; have q2 := haB z; have q3 := hbB z; have q4 := hn2.1 z; have q5 := hn2.2 z; clear h94 t tl nk hv hinj hmod hI hsub hn hnn hN hgN lo0; grind (splits := 30) (gen := 20) (ematch := 20) [updF_eq, va_rf]) (fun z hz => by have q1 := hnt z; have q2 := haB z; have q3 := hbB z; have q4 := hn2.1 z; have q5 := hn2.2 z; clear h94 t tl nk hv hinj hmod hI hsub hn hnn hN hgN lo0; grind (splits := 30) (gen := 20) (ematch := 20) [updF_eq, va_rf]) (fun z hz => by have q1 := hnt z; have q2 := haB z; have q3 := hbB z; have q4 := hn2.1 z; have q5 := hn2.2 z; clear h94 t tl nk hv hinj hmod hI hsub hn hnn hN hgN lo0; grind (splits := 30) (gen := 20) (ematch := 20) [updF_eq, va_rf]) (fun z hz => by have q1 := hnt z; have q2 := haB z; have q3 := hbB z; have q4 := hn2.1 z; have q5 := hn2.2 z; clear h94 t tl nk hv hinj hmod hI hsub hn hnn hN hgN lo0; grind (splits := 30) (gen := 20) (ematch := 20) [updF_eq, va_rf]) trivial trivial) (by repeat (first | exact FrP.refl | refine FrP.upd ?_ (by first | exact Or.inl ⟨rfl, rfl⟩ | exact Or.inr ⟨haB _ ha, by decide⟩ | exact Or.inr ⟨hbB _ hg, by decide⟩))) | exact h94 _ _ _ _ _ _ _ _ _ _ _ _ _ _ _ (rf_cat _) (rf_cat _) rfl rfl rfl rfl (by rw [ha]; exact hb78) (by clear h94 t tl nk hv hinj hmod hI hsub hn hnn hN hgN lo0; grind (splits := 30) (gen := 20) (ematch := 20) [updF_eq, va_rf]) (DL.splice (c := [p]) (c2 := []) dl hn (fun z hz => by have q1 := hnt z; have q2 := haB z; have q3 := hbB z; have q4 := hn2.1 z; have q5 := hn2.2 z; clear h94 t tl nk hv hinj hmod hI hsub hn hnn hN hgN lo0; grind (splits := 30) (gen := 20) (ematch := 20) [updF_eq, va_rf]) (fun z hz => by have q1 := hnt z; have q2 := haB z; have q3 := hbB z; have q4 := hn2.1 z; have q5 := hn2.2 z; clear h94 t tl nk hv hinj hmod hI hsub hn hnn hN hgN lo0; grind (splits := 30) (gen := 20) (ematch := 20) [updF_eq, va_rf]) (fun z hz => by have q1 := hnt z; have q2 := haB z; have q3 := hbB z; have q4 := hn2.1 z; have q5 := hn2.2 z; clear h94 t tl nk hv hinj hmod hI hsub hn hnn hN hgN lo0; grind (splits := 30) (gen := 20) (ematch := 20) [updF_eq, va_rf]) (fun z hz => by have q1 := hnt z; have q2 := haB z; have q3 := hbB z; have q4 := hn2.1 z; have q5 := hn2.2 z; clear h94 t tl nk hv hinj hmod hI hsub hn hnn hN hgN lo0; grind (splits := 30) (gen := 20) (ematch := 20) [updF_eq, va_rf]) trivial trivial) (by repeat (first | exact FrP.refl | refine FrP.upd ?_ (by first | exact Or.inl ⟨rfl, rfl⟩ | exact Or.inr ⟨haB _ ha, by decide⟩ | exact Or.inr ⟨hbB _ hg, by decide⟩)))
      · refine wa_return (pc := 93) (y := mJ26_removeTreeNode) dJ26_removeTreeNode_93 rfl (by first | (cases hb90; done) | exact ⟨rfl, Or.inl ⟨by rw [ha, hg]; rfl, _, rfl, (by clear h94 t tl nk hv hinj hmod hI hsub hn hnn hN hgN lo0; grind (splits := 30) (gen := 20) (ematch := 20) [updF_eq, va_rf]), (by repeat (first | exact FrP.refl | refine FrP.upd ?_ (by first | exact Or.inl ⟨rfl, rfl⟩ | exact Or.inr ⟨haB _ ha, by decide⟩ | exact Or.inr ⟨hbB _ hg, by decide⟩)))⟩⟩)
end REMOVE3
