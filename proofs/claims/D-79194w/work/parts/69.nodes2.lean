/-! ===== new nodes, and nodes that take another one's place ===== -/
section NODES2
variable {G : GG} {d n : Nat} {y : MD} {pc : Nat} {ls st : List Value} {Q : RR → AH → Prop} {h h2 : AH} {F F2 F3 : Nat → Nat → Value} {S : Nat → Prop} {m p q x : Nat} {ns a b : List Nat} {nx : Option Nat} {hs : Int32} {kk vv : Nat}
theorem LO.congr (lo : LO F m ns) (h8 : F2 m 8 = F m 8) (h9 : F2 m 9 = F m 9) (h4 : ∀ z, z ∈ ns → F2 z 4 = F z 4) (h5 : ∀ z, z ∈ ns → F2 z 5 = F z 5) : LO F2 m ns :=
  ⟨h8.trans lo.1, h9.trans lo.2.1, ChE_congr h5 lo.2.2.1, PvE_congr h4 lo.2.2.2⟩
/-- the order after a new node; k is the node's kind -/
def NewQ (k l : Nat) (h : AH) (F : Nat → Nat → Value) (m : Nat) (old new : List Nat) (hs : Int32) (kk vv : Nat) (nx : Option Nat) (r : RR) (h' : AH) : Prop :=
  r = .inl (some (.ref h.1)) ∧ ∃ F2, h' = sF (hNew h k l) F2 ∧ LO F2 m new ∧ F2 h.1 0 = .int hs ∧ F2 h.1 1 = .ref kk ∧ F2 h.1 2 = .ref vv ∧ F2 h.1 3 = va_rf nx ∧ (k = 14 → F2 h.1 6 = .null ∧ F2 h.1 7 = .null ∧ F2 h.1 8 = .null ∧ F2 h.1 9 = .null ∧ F2 h.1 10 = .int 0) ∧
    ∀ b j, b ≠ h.1 → ¬ (b = m ∧ (j = 8 ∨ j = 9)) → ¬ (b ∈ old ∧ (j = 4 ∨ j = 5)) → F2 b j = F b j
theorem initF_o {b j : Nat} (hb : b ≠ p) : initF F p hs kk vv nx b j = F b j := updF_a hb (updF_a hb (updF_a hb (updF_a hb rfl)))
theorem initF_h {j : Nat} (hj : 3 < j) : initF F p hs kk vv nx p j = F p j := updF_i (by omega) (updF_i (by omega) (updF_i (by omega) (updF_i (by omega) rfl)))
theorem initF_0 : initF F p hs kk vv nx p 0 = .int hs := updF_i (by decide) (updF_i (by decide) (updF_i (by decide) (updF_self _ _ _ _)))
theorem initF_1 : initF F p hs kk vv nx p 1 = .ref kk := updF_i (by decide) (updF_i (by decide) (updF_self _ _ _ _))
theorem initF_2 : initF F p hs kk vv nx p 2 = .ref vv := updF_i (by decide) (updF_self _ _ _ _)
theorem initF_3 : initF F p hs kk vv nx p 3 = va_rf nx := updF_self _ _ _ _
theorem s_J5_newNode (hd : 3 ≤ d) (hm : Is h m 12 12) (h11 : F m 11 = .int 0) (lo : LO F m ns) (hn : ns.Nodup) (hN : ∀ z, z ∈ ns → Nd h z) :
    MA G d mJ5_newNode [.ref m, .int hs, .ref kk, .ref vv, .null] (sF h F) (NewQ 13 6 h F m ns (ns ++ [h.1]) hs kk vv none) := by
  change WA G d mJ5_newNode 0 [.ref m, .int hs, .ref kk, .ref vv, .null, .retAddr 0] [] _ _
  have hm2 : Is (hNew h 13 6) m 12 12 := hm.new
  have hp : Nd (hNew h 13 6) h.1 := Or.inl Is.self
  have hlt : ∀ z, z ∈ ns → z ≠ h.1 := fun z hz => Nat.ne_of_lt (hN z hz).lt
  have hmlt : m ≠ h.1 := Nat.ne_of_lt hm.lt
  have hold : ∀ (L : List Value) (b j : Nat), b ≠ h.1 → initF (newF F h.1 (fun i => L.getD i .null)) h.1 hs kk vv none b j = F b j := fun L b j hb => by rw [initF_o hb]; exact newF_a hb rfl
  have lo2 : ∀ L : List Value, LO (initF (newF F h.1 (fun i => L.getD i .null)) h.1 hs kk vv none) m ns := fun L => lo.congr (hold L _ _ hmlt) (hold L _ _ hmlt) (fun z hz => hold L _ _ (hlt z hz)) (fun z hz => hold L _ _ (hlt z hz))
  have hnd : (ns ++ [h.1]).Nodup := by
    rw [List.nodup_append]
    exact ⟨hn, by simp, fun z hz w hw => by simp at hw; rw [hw]; exact hlt z hz⟩
  refine wf_new (k := 13) (l := 6) [.int 0, .null, .null, .null, .null, .null] tyJ25 dJ5_newNode_0 rfl q1088 q1301 q120 tyJ25_ok rfl rfl ?_
  refine wa_dup (pc := 3) (y := mJ5_newNode) dJ5_newNode_3 (by first | rfl | exact rf_cat _) ?_
  refine wa_iload_n (pc := 4) (y := mJ5_newNode) dJ5_newNode_4 rfl ?_
  refine wa_aloadV_n (pc := 5) (y := mJ5_newNode) dJ5_newNode_5 rfl (by first | exact rf_s _ | exact rf_n | exact rf_q _) ?_
  refine wa_aloadV_n (pc := 6) (y := mJ5_newNode) dJ5_newNode_6 rfl (by first | exact rf_s _ | exact rf_n | exact rf_q _) ?_
  refine wa_aloadV (pc := 7) (y := mJ5_newNode) dJ5_newNode_7 rfl (by first | exact rf_s _ | exact rf_n | exact rf_q _) ?_
  refine wa_callI (pc := 9) (s_J25_init (d := d - 1) (nx := none) (by omega) hp) dJ5_newNode_9 okJ25_init rfl rfl rfl q1302 q1303 rfl rfl (Nat.le_of_ble_eq_true rfl) (Nat.le_of_ble_eq_true rfl) (by omega) ?_
  rintro _ _ - - ⟨rfl, rfl⟩
  refine aft_0 (pc2 := 12) ?_ rfl
  refine wa_astoreV (pc := 12) (y := mJ5_newNode) dJ5_newNode_12 (Nat.le_of_ble_eq_true rfl) (by first | rfl | (simp [okst, rf_cat] <;> assumption)) (by first | exact rf_s _ | exact rf_n | exact rf_q _) ?_
  simp only [List.set_cons_zero, List.set_cons_succ]
  refine wa_aloadV_n (pc := 14) (y := mJ5_newNode) dJ5_newNode_14 rfl (by first | exact rf_s _ | exact rf_n | exact rf_q _) ?_
  refine wa_aloadV (pc := 15) (y := mJ5_newNode) dJ5_newNode_15 rfl (by first | exact rf_s _ | exact rf_n | exact rf_q _) ?_
  refine wa_callV (pc := 17) (s_J5_linkNodeAtEnd (d := d - 1) hm2 ((hold _ _ _ hmlt).trans h11) (lo2 _) hnd (fun z hz => by rcases List.mem_append.mp hz with hz | hz; exact (hN z hz).new; simp at hz; rw [hz]; exact hp) (by rw [initF_h (by decide)]; exact newL_self rfl) (by rw [initF_h (by decide)]; exact newL_self rfl)) dJ5_newNode_17 okJ5_linkNodeAtEnd q1593 q1595 qs9 (sF_at (by assumption)) rfl rfl rfl (Nat.le_of_ble_eq_true rfl) (Nat.le_of_ble_eq_true rfl) (by omega) ?_
  rintro _ _ - - ⟨rfl, F2, rfl, lo3, fr⟩
  refine aft_0 (pc2 := 20) ?_ rfl
  refine wa_aloadV (pc := 20) (y := mJ5_newNode) dJ5_newNode_20 rfl (by first | exact rf_s _ | exact rf_n | exact rf_q _) ?_
  refine wa_areturnV (pc := 22) (y := mJ5_newNode) (.object "java/util/HashMap$Node") dJ5_newNode_22 rfl (Or.inl ⟨_, rfl⟩) (by first | exact rf_s _ | exact rf_n | exact rf_q _) ⟨rfl, F2, rfl, lo3, ?_, ?_, ?_, ?_, fun e => (by cases e), fun b j h1 h2 h3 => ?_⟩
  · rw [fr _ _ (fun e => hmlt e.1.symm) (fun e => by omega)]; exact initF_0
  · rw [fr _ _ (fun e => hmlt e.1.symm) (fun e => by omega)]; exact initF_1
  · rw [fr _ _ (fun e => hmlt e.1.symm) (fun e => by omega)]; exact initF_2
  · rw [fr _ _ (fun e => hmlt e.1.symm) (fun e => by omega)]; exact initF_3
  · rw [fr _ _ h2 (fun e => h3 ⟨by have := e.1; simp at this; exact this.elim id (fun q => absurd q h1), e.2⟩)]
    exact hold _ _ _ h1
theorem s_J5_newTreeNode (hd : 4 ≤ d) (hm : Is h m 12 12) (h11 : F m 11 = .int 0) (lo : LO F m ns) (hn : ns.Nodup) (hN : ∀ z, z ∈ ns → Nd h z) :
    MA G d mJ5_newTreeNode [.ref m, .int hs, .ref kk, .ref vv, va_rf nx] (sF h F) (NewQ 14 11 h F m ns (ns ++ [h.1]) hs kk vv nx) := by
  have hm2 : Is (hNew h 14 11) m 12 12 := hm.new
  have hp : Nd (hNew h 14 11) h.1 := Or.inr Is.self
  have hlt : ∀ z, z ∈ ns → z ≠ h.1 := fun z hz => Nat.ne_of_lt (hN z hz).lt
  have hmlt : m ≠ h.1 := Nat.ne_of_lt hm.lt
  have hold : ∀ (L : List Value) (b j : Nat), b ≠ h.1 → initF (newF F h.1 (fun i => L.getD i .null)) h.1 hs kk vv nx b j = F b j := fun L b j hb => by rw [initF_o hb]; exact newF_a hb rfl
  have lo2 : ∀ L : List Value, LO (initF (newF F h.1 (fun i => L.getD i .null)) h.1 hs kk vv nx) m ns := fun L => lo.congr (hold L _ _ hmlt) (hold L _ _ hmlt) (fun z hz => hold L _ _ (hlt z hz)) (fun z hz => hold L _ _ (hlt z hz))
  have hnd : (ns ++ [h.1]).Nodup := by
    rw [List.nodup_append]
    exact ⟨hn, by simp, fun z hz w hw => by simp at hw; rw [hw]; exact hlt z hz⟩
  have fin : ∀ (L : List Value) (F2 : Nat → Nat → Value), L = [.int 0, .null, .null, .null, .null, .null, .null, .null, .null, .null, .int 0] → LO F2 m (ns ++ [h.1]) → LFr m (· ∈ ns ++ [h.1]) (initF (newF F h.1 (fun i => L.getD i .null)) h.1 hs kk vv nx) F2 → NewQ 14 11 h F m ns (ns ++ [h.1]) hs kk vv nx (.inl (some (.ref h.1))) (sF (hNew h 14 11) F2) := by
    intro L F2 hL lo3 fr
    have g : ∀ j, j ≠ 4 ∧ j ≠ 5 → F2 h.1 j = initF (newF F h.1 (fun i => L.getD i .null)) h.1 hs kk vv nx h.1 j := fun j hj => fr _ _ (fun e => hmlt e.1.symm) (fun e => by omega)
    subst hL
    refine ⟨rfl, F2, rfl, lo3, (g _ (by decide)).trans initF_0, (g _ (by decide)).trans initF_1, (g _ (by decide)).trans initF_2, (g _ (by decide)).trans initF_3, fun _ => ⟨?_, ?_, ?_, ?_, ?_⟩, fun b j h1 h2 h3 => ?_⟩
    · rw [g _ (by decide), initF_h (by decide)]; exact newL_self rfl
    · rw [g _ (by decide), initF_h (by decide)]; exact newL_self rfl
    · rw [g _ (by decide), initF_h (by decide)]; exact newL_self rfl
    · rw [g _ (by decide), initF_h (by decide)]; exact newL_self rfl
    · rw [g _ (by decide), initF_h (by decide)]; exact newL_self rfl
    · rw [fr _ _ h2 (fun e => h3 ⟨by have := e.1; simp at this; exact this.elim id (fun q => absurd q h1), e.2⟩)]
      exact hold _ _ _ h1
  cases nx <;>
  ( change WA G d mJ5_newTreeNode 0 [.ref m, .int hs, .ref kk, .ref vv, _, .retAddr 0] [] _ _
    refine wf_new (k := 14) (l := 11) [.int 0, .null, .null, .null, .null, .null, .null, .null, .null, .null, .int 0] tyJ26 dJ5_newTreeNode_0 rfl q1608 q1609 q121 tyJ26_ok rfl rfl ?_
    refine wa_dup (pc := 3) (y := mJ5_newTreeNode) dJ5_newTreeNode_3 (by first | rfl | exact rf_cat _) ?_
    refine wa_iload_n (pc := 4) (y := mJ5_newTreeNode) dJ5_newTreeNode_4 rfl ?_
    refine wa_aloadV_n (pc := 5) (y := mJ5_newTreeNode) dJ5_newTreeNode_5 rfl (by first | exact rf_s _ | exact rf_n | exact rf_q _) ?_
    refine wa_aloadV_n (pc := 6) (y := mJ5_newTreeNode) dJ5_newTreeNode_6 rfl (by first | exact rf_s _ | exact rf_n | exact rf_q _) ?_
    refine wa_aloadV (pc := 7) (y := mJ5_newTreeNode) dJ5_newTreeNode_7 rfl (by first | exact rf_s _ | exact rf_n | exact rf_q _) ?_
    refine wa_callI (pc := 9) (s_J26_init (d := d - 1) (by omega) hp) dJ5_newTreeNode_9 okJ26_init rfl rfl rfl q1610 q1611 rfl rfl (Nat.le_of_ble_eq_true rfl) (Nat.le_of_ble_eq_true rfl) (by omega) ?_
    rintro _ _ - - ⟨rfl, rfl⟩
    refine aft_0 (pc2 := 12) ?_ rfl
    refine wa_astoreV (pc := 12) (y := mJ5_newTreeNode) dJ5_newTreeNode_12 (Nat.le_of_ble_eq_true rfl) (by first | rfl | (simp [okst, rf_cat] <;> assumption)) (by first | exact rf_s _ | exact rf_n | exact rf_q _) ?_
    simp only [List.set_cons_zero, List.set_cons_succ]
    refine wa_aloadV_n (pc := 14) (y := mJ5_newTreeNode) dJ5_newTreeNode_14 rfl (by first | exact rf_s _ | exact rf_n | exact rf_q _) ?_
    refine wa_aloadV (pc := 15) (y := mJ5_newTreeNode) dJ5_newTreeNode_15 rfl (by first | exact rf_s _ | exact rf_n | exact rf_q _) ?_
    refine wa_callV (pc := 17) (s_J5_linkNodeAtEnd (d := d - 1) hm2 ((hold _ _ _ hmlt).trans h11) (lo2 _) hnd (fun z hz => by rcases List.mem_append.mp hz with hz | hz; exact (hN z hz).new; simp at hz; rw [hz]; exact hp) (by rw [initF_h (by decide)]; exact newL_self rfl) (by rw [initF_h (by decide)]; exact newL_self rfl)) dJ5_newTreeNode_17 okJ5_linkNodeAtEnd q1593 q1595 qs9 (sF_at (by assumption)) rfl rfl rfl (Nat.le_of_ble_eq_true rfl) (Nat.le_of_ble_eq_true rfl) (by omega) ?_
    rintro _ _ - - ⟨rfl, F2, rfl, lo3, fr⟩
    refine aft_0 (pc2 := 20) ?_ rfl
    refine wa_aloadV (pc := 20) (y := mJ5_newTreeNode) dJ5_newTreeNode_20 rfl (by first | exact rf_s _ | exact rf_n | exact rf_q _) ?_
    refine wa_areturnV (pc := 22) (y := mJ5_newTreeNode) (.object "java/util/HashMap$TreeNode") dJ5_newTreeNode_22 rfl (Or.inl ⟨_, rfl⟩) (by first | exact rf_s _ | exact rf_n | exact rf_q _) (fin _ F2 rfl lo3 fr)
  )
theorem s_J5_replacementNode (hd : 3 ≤ d) (hm : Is h m 12 12) (lo : LO F m (a ++ p :: b)) (hn : (a ++ p :: b).Nodup) (hN : ∀ z, z ∈ a ++ p :: b → Nd h z) (e0 : F p 0 = .int hs) (e1 : F p 1 = .ref kk) (e2 : F p 2 = .ref vv) :
    MA G d mJ5_replacementNode [.ref m, .ref p, .null] (sF h F) (NewQ 13 6 h F m (a ++ p :: b) (a ++ h.1 :: b) hs kk vv none) := by
  change WA G d mJ5_replacementNode 0 [.ref m, .ref p, .null, .retAddr 0, .retAddr 0] [] _ _
  have hm2 : Is (hNew h 13 6) m 12 12 := hm.new
  have hq : Nd (hNew h 13 6) h.1 := Or.inl Is.self
  have hp1 : Nd h p := hN p (by simp)
  have hp : Nd (hNew h 13 6) p := hp1.new
  have hlt : ∀ z, z ∈ a ++ p :: b → z ≠ h.1 := fun z hz => Nat.ne_of_lt (hN z hz).lt
  have hpq : p ≠ h.1 := hlt p (by simp)
  have hmlt : m ≠ h.1 := Nat.ne_of_lt hm.lt
  have hold : ∀ (L : List Value) (b j : Nat), b ≠ h.1 → initF (newF F h.1 (fun i => L.getD i .null)) h.1 hs kk vv none b j = F b j := fun L b j hb => by rw [initF_o hb]; exact newF_a hb rfl
  have lo2 : ∀ L : List Value, LO (initF (newF F h.1 (fun i => L.getD i .null)) h.1 hs kk vv none) m (a ++ p :: b) := fun L => lo.congr (hold L _ _ hmlt) (hold L _ _ hmlt) (fun z hz => hold L _ _ (hlt z hz)) (fun z hz => hold L _ _ (hlt z hz))
  have hqn : h.1 ∉ a ++ p :: b := fun e => hlt _ e rfl
  have fin : ∀ (L : List Value) (F2 : Nat → Nat → Value), L = [.int 0, .null, .null, .null, .null, .null] → LO F2 m (a ++ h.1 :: b) → LFr m (· ∈ h.1 :: (a ++ p :: b)) (initF (newF F h.1 (fun i => L.getD i .null)) h.1 hs kk vv none) F2 → NewQ 13 6 h F m (a ++ p :: b) (a ++ h.1 :: b) hs kk vv none (.inl (some (.ref h.1))) (sF (hNew h 13 6) F2) := by
    intro L F2 hL lo3 fr
    have g : ∀ j, j ≠ 4 ∧ j ≠ 5 → F2 h.1 j = initF (newF F h.1 (fun i => L.getD i .null)) h.1 hs kk vv none h.1 j := fun j hj => fr _ _ (fun e => hmlt e.1.symm) (fun e => by omega)
    subst hL
    refine ⟨rfl, F2, rfl, lo3, (g _ (by decide)).trans initF_0, (g _ (by decide)).trans initF_1, (g _ (by decide)).trans initF_2, (g _ (by decide)).trans initF_3, fun e => (by cases e), fun b j h1 h2 h3 => ?_⟩
    · rw [fr _ _ h2 (fun e => h3 ⟨by have := e.1; exact (List.mem_cons.mp this).elim (fun q => absurd q h1) id, e.2⟩)]
      exact hold _ _ _ h1
  refine wa_aloadV_n (pc := 0) (y := mJ5_replacementNode) dJ5_replacementNode_0 rfl (by first | exact rf_s _ | exact rf_n | exact rf_q _) ?_
  refine wn_castE dJ5_replacementNode_1 (by assumption) q1088 ?_
  refine wa_astoreV_n (pc := 4) (y := mJ5_replacementNode) dJ5_replacementNode_4 (Nat.le_of_ble_eq_true rfl) (by first | rfl | (simp [okst, rf_cat] <;> assumption)) (by first | exact rf_s _ | exact rf_n | exact rf_q _) ?_
  change WA _ _ _ _ (List.set _ 3 _) _ _ _
  simp only [List.set_cons_zero, List.set_cons_succ]
  refine wf_new (k := 13) (l := 6) [.int 0, .null, .null, .null, .null, .null] tyJ25 dJ5_replacementNode_5 rfl q1088 q1301 q120 tyJ25_ok rfl rfl ?_
  refine wa_dup (pc := 8) (y := mJ5_replacementNode) dJ5_replacementNode_8 (by first | rfl | exact rf_cat _) ?_
  refine wa_aloadV_n (pc := 9) (y := mJ5_replacementNode) dJ5_replacementNode_9 rfl (by first | exact rf_s _ | exact rf_n | exact rf_q _) ?_
  refine wn_get 0 dJ5_replacementNode_10 (by assumption) q1317 (Or.inr q1318) (Nat.le_of_ble_eq_true rfl) (by (repeat (first | exact updF_self _ _ _ _ | (apply updF_i; · decide) | (apply updF_a; · first | assumption | (apply Ne.symm; assumption) | omega) | (apply newF_a; · first | assumption | (apply Ne.symm; assumption) | omega) | exact newL_self (by rfl) | exact newF_self (by rfl) | (apply cpyF_a; · first | assumption | (apply Ne.symm; assumption) | omega))) <;> first | assumption | rfl) ?_
  refine wa_aloadV_n (pc := 13) (y := mJ5_replacementNode) dJ5_replacementNode_13 rfl (by first | exact rf_s _ | exact rf_n | exact rf_q _) ?_
  refine wn_get 1 dJ5_replacementNode_14 (by assumption) q1324 (Or.inr q1325) (Nat.le_of_ble_eq_true rfl) (by (repeat (first | exact updF_self _ _ _ _ | (apply updF_i; · decide) | (apply updF_a; · first | assumption | (apply Ne.symm; assumption) | omega) | (apply newF_a; · first | assumption | (apply Ne.symm; assumption) | omega) | exact newL_self (by rfl) | exact newF_self (by rfl) | (apply cpyF_a; · first | assumption | (apply Ne.symm; assumption) | omega))) <;> first | assumption | rfl) ?_
  refine wa_aloadV_n (pc := 17) (y := mJ5_replacementNode) dJ5_replacementNode_17 rfl (by first | exact rf_s _ | exact rf_n | exact rf_q _) ?_
  refine wn_get 2 dJ5_replacementNode_18 (by assumption) q1330 (Or.inr q1329) (Nat.le_of_ble_eq_true rfl) (by (repeat (first | exact updF_self _ _ _ _ | (apply updF_i; · decide) | (apply updF_a; · first | assumption | (apply Ne.symm; assumption) | omega) | (apply newF_a; · first | assumption | (apply Ne.symm; assumption) | omega) | exact newL_self (by rfl) | exact newF_self (by rfl) | (apply cpyF_a; · first | assumption | (apply Ne.symm; assumption) | omega))) <;> first | assumption | rfl) ?_
  refine wa_aloadV_n (pc := 21) (y := mJ5_replacementNode) dJ5_replacementNode_21 rfl (by first | exact rf_s _ | exact rf_n | exact rf_q _) ?_
  refine wa_callI (pc := 22) (s_J25_init (d := d - 1) (nx := none) (by omega) hq) dJ5_replacementNode_22 okJ25_init rfl rfl rfl q1302 q1303 rfl rfl (Nat.le_of_ble_eq_true rfl) (Nat.le_of_ble_eq_true rfl) (by omega) ?_
  rintro _ _ - - ⟨rfl, rfl⟩
  refine aft_0 (pc2 := 25) ?_ rfl
  refine wa_astoreV (pc := 25) (y := mJ5_replacementNode) dJ5_replacementNode_25 (Nat.le_of_ble_eq_true rfl) (by first | rfl | (simp [okst, rf_cat] <;> assumption)) (by first | exact rf_s _ | exact rf_n | exact rf_q _) ?_
  simp only [List.set_cons_zero, List.set_cons_succ]
  refine wa_aloadV_n (pc := 27) (y := mJ5_replacementNode) dJ5_replacementNode_27 rfl (by first | exact rf_s _ | exact rf_n | exact rf_q _) ?_
  refine wa_aloadV_n (pc := 28) (y := mJ5_replacementNode) dJ5_replacementNode_28 rfl (by first | exact rf_s _ | exact rf_n | exact rf_q _) ?_
  refine wa_aloadV (pc := 29) (y := mJ5_replacementNode) dJ5_replacementNode_29 rfl (by first | exact rf_s _ | exact rf_n | exact rf_q _) ?_
  refine wa_callV (pc := 31) (s_J5_transferLinks (d := d - 1) hm2 (lo2 _) hn (fun z hz => (hN z hz).new) hq hqn) dJ5_replacementNode_31 okJ5_transferLinks q1352 q1354 qs8 (sF_at (by assumption)) rfl rfl rfl (Nat.le_of_ble_eq_true rfl) (Nat.le_of_ble_eq_true rfl) (by omega) ?_
  rintro _ _ - - ⟨rfl, F2, rfl, lo3, fr⟩
  refine aft_0 (pc2 := 34) ?_ rfl
  refine wa_aloadV (pc := 34) (y := mJ5_replacementNode) dJ5_replacementNode_34 rfl (by first | exact rf_s _ | exact rf_n | exact rf_q _) ?_
  refine wa_areturnV (pc := 36) (y := mJ5_replacementNode) (.object "java/util/HashMap$Node") dJ5_replacementNode_36 rfl (Or.inl ⟨_, rfl⟩) (by first | exact rf_s _ | exact rf_n | exact rf_q _) (fin _ F2 rfl lo3 fr)
theorem s_J5_replacementTreeNode (hd : 4 ≤ d) (hm : Is h m 12 12) (lo : LO F m (a ++ p :: b)) (hn : (a ++ p :: b).Nodup) (hN : ∀ z, z ∈ a ++ p :: b → Nd h z) (e0 : F p 0 = .int hs) (e1 : F p 1 = .ref kk) (e2 : F p 2 = .ref vv) :
    MA G d mJ5_replacementTreeNode [.ref m, .ref p, .null] (sF h F) (NewQ 14 11 h F m (a ++ p :: b) (a ++ h.1 :: b) hs kk vv none) := by
  change WA G d mJ5_replacementTreeNode 0 [.ref m, .ref p, .null, .retAddr 0, .retAddr 0] [] _ _
  have hm2 : Is (hNew h 14 11) m 12 12 := hm.new
  have hq : Nd (hNew h 14 11) h.1 := Or.inr Is.self
  have hp1 : Nd h p := hN p (by simp)
  have hp : Nd (hNew h 14 11) p := hp1.new
  have hlt : ∀ z, z ∈ a ++ p :: b → z ≠ h.1 := fun z hz => Nat.ne_of_lt (hN z hz).lt
  have hpq : p ≠ h.1 := hlt p (by simp)
  have hmlt : m ≠ h.1 := Nat.ne_of_lt hm.lt
  have hold : ∀ (L : List Value) (b j : Nat), b ≠ h.1 → initF (newF F h.1 (fun i => L.getD i .null)) h.1 hs kk vv none b j = F b j := fun L b j hb => by rw [initF_o hb]; exact newF_a hb rfl
  have lo2 : ∀ L : List Value, LO (initF (newF F h.1 (fun i => L.getD i .null)) h.1 hs kk vv none) m (a ++ p :: b) := fun L => lo.congr (hold L _ _ hmlt) (hold L _ _ hmlt) (fun z hz => hold L _ _ (hlt z hz)) (fun z hz => hold L _ _ (hlt z hz))
  have hqn : h.1 ∉ a ++ p :: b := fun e => hlt _ e rfl
  have fin : ∀ (L : List Value) (F2 : Nat → Nat → Value), L = [.int 0, .null, .null, .null, .null, .null, .null, .null, .null, .null, .int 0] → LO F2 m (a ++ h.1 :: b) → LFr m (· ∈ h.1 :: (a ++ p :: b)) (initF (newF F h.1 (fun i => L.getD i .null)) h.1 hs kk vv none) F2 → NewQ 14 11 h F m (a ++ p :: b) (a ++ h.1 :: b) hs kk vv none (.inl (some (.ref h.1))) (sF (hNew h 14 11) F2) := by
    intro L F2 hL lo3 fr
    have g : ∀ j, j ≠ 4 ∧ j ≠ 5 → F2 h.1 j = initF (newF F h.1 (fun i => L.getD i .null)) h.1 hs kk vv none h.1 j := fun j hj => fr _ _ (fun e => hmlt e.1.symm) (fun e => by omega)
    subst hL
    refine ⟨rfl, F2, rfl, lo3, (g _ (by decide)).trans initF_0, (g _ (by decide)).trans initF_1, (g _ (by decide)).trans initF_2, (g _ (by decide)).trans initF_3, fun e => ⟨?_, ?_, ?_, ?_, ?_⟩, fun b j h1 h2 h3 => ?_⟩
    · rw [g _ (by decide), initF_h (by decide)]; exact newL_self rfl
    · rw [g _ (by decide), initF_h (by decide)]; exact newL_self rfl
    · rw [g _ (by decide), initF_h (by decide)]; exact newL_self rfl
    · rw [g _ (by decide), initF_h (by decide)]; exact newL_self rfl
    · rw [g _ (by decide), initF_h (by decide)]; exact newL_self rfl
    · rw [fr _ _ h2 (fun e => h3 ⟨by have := e.1; exact (List.mem_cons.mp this).elim (fun q => absurd q h1) id, e.2⟩)]
      exact hold _ _ _ h1
  refine wa_aloadV_n (pc := 0) (y := mJ5_replacementTreeNode) dJ5_replacementTreeNode_0 rfl (by first | exact rf_s _ | exact rf_n | exact rf_q _) ?_
  refine wn_castE dJ5_replacementTreeNode_1 (by assumption) q1088 ?_
  refine wa_astoreV_n (pc := 4) (y := mJ5_replacementTreeNode) dJ5_replacementTreeNode_4 (Nat.le_of_ble_eq_true rfl) (by first | rfl | (simp [okst, rf_cat] <;> assumption)) (by first | exact rf_s _ | exact rf_n | exact rf_q _) ?_
  change WA _ _ _ _ (List.set _ 3 _) _ _ _
  simp only [List.set_cons_zero, List.set_cons_succ]
  refine wf_new (k := 14) (l := 11) [.int 0, .null, .null, .null, .null, .null, .null, .null, .null, .null, .int 0] tyJ26 dJ5_replacementTreeNode_5 rfl q1608 q1609 q121 tyJ26_ok rfl rfl ?_
  refine wa_dup (pc := 8) (y := mJ5_replacementTreeNode) dJ5_replacementTreeNode_8 (by first | rfl | exact rf_cat _) ?_
  refine wa_aloadV_n (pc := 9) (y := mJ5_replacementTreeNode) dJ5_replacementTreeNode_9 rfl (by first | exact rf_s _ | exact rf_n | exact rf_q _) ?_
  refine wn_get 0 dJ5_replacementTreeNode_10 (by assumption) q1317 (Or.inr q1318) (Nat.le_of_ble_eq_true rfl) (by (repeat (first | exact updF_self _ _ _ _ | (apply updF_i; · decide) | (apply updF_a; · first | assumption | (apply Ne.symm; assumption) | omega) | (apply newF_a; · first | assumption | (apply Ne.symm; assumption) | omega) | exact newL_self (by rfl) | exact newF_self (by rfl) | (apply cpyF_a; · first | assumption | (apply Ne.symm; assumption) | omega))) <;> first | assumption | rfl) ?_
  refine wa_aloadV_n (pc := 13) (y := mJ5_replacementTreeNode) dJ5_replacementTreeNode_13 rfl (by first | exact rf_s _ | exact rf_n | exact rf_q _) ?_
  refine wn_get 1 dJ5_replacementTreeNode_14 (by assumption) q1324 (Or.inr q1325) (Nat.le_of_ble_eq_true rfl) (by (repeat (first | exact updF_self _ _ _ _ | (apply updF_i; · decide) | (apply updF_a; · first | assumption | (apply Ne.symm; assumption) | omega) | (apply newF_a; · first | assumption | (apply Ne.symm; assumption) | omega) | exact newL_self (by rfl) | exact newF_self (by rfl) | (apply cpyF_a; · first | assumption | (apply Ne.symm; assumption) | omega))) <;> first | assumption | rfl) ?_
  refine wa_aloadV_n (pc := 17) (y := mJ5_replacementTreeNode) dJ5_replacementTreeNode_17 rfl (by first | exact rf_s _ | exact rf_n | exact rf_q _) ?_
  refine wn_get 2 dJ5_replacementTreeNode_18 (by assumption) q1330 (Or.inr q1329) (Nat.le_of_ble_eq_true rfl) (by (repeat (first | exact updF_self _ _ _ _ | (apply updF_i; · decide) | (apply updF_a; · first | assumption | (apply Ne.symm; assumption) | omega) | (apply newF_a; · first | assumption | (apply Ne.symm; assumption) | omega) | exact newL_self (by rfl) | exact newF_self (by rfl) | (apply cpyF_a; · first | assumption | (apply Ne.symm; assumption) | omega))) <;> first | assumption | rfl) ?_
  refine wa_aloadV_n (pc := 21) (y := mJ5_replacementTreeNode) dJ5_replacementTreeNode_21 rfl (by first | exact rf_s _ | exact rf_n | exact rf_q _) ?_
  refine wa_callI (pc := 22) (s_J26_init (d := d - 1) (nx := none) (by omega) hq) dJ5_replacementTreeNode_22 okJ26_init rfl rfl rfl q1610 q1611 rfl rfl (Nat.le_of_ble_eq_true rfl) (Nat.le_of_ble_eq_true rfl) (by omega) ?_
  rintro _ _ - - ⟨rfl, rfl⟩
  refine aft_0 (pc2 := 25) ?_ rfl
  refine wa_astoreV (pc := 25) (y := mJ5_replacementTreeNode) dJ5_replacementTreeNode_25 (Nat.le_of_ble_eq_true rfl) (by first | rfl | (simp [okst, rf_cat] <;> assumption)) (by first | exact rf_s _ | exact rf_n | exact rf_q _) ?_
  simp only [List.set_cons_zero, List.set_cons_succ]
  refine wa_aloadV_n (pc := 27) (y := mJ5_replacementTreeNode) dJ5_replacementTreeNode_27 rfl (by first | exact rf_s _ | exact rf_n | exact rf_q _) ?_
  refine wa_aloadV_n (pc := 28) (y := mJ5_replacementTreeNode) dJ5_replacementTreeNode_28 rfl (by first | exact rf_s _ | exact rf_n | exact rf_q _) ?_
  refine wa_aloadV (pc := 29) (y := mJ5_replacementTreeNode) dJ5_replacementTreeNode_29 rfl (by first | exact rf_s _ | exact rf_n | exact rf_q _) ?_
  refine wa_callV (pc := 31) (s_J5_transferLinks (d := d - 1) hm2 (lo2 _) hn (fun z hz => (hN z hz).new) hq hqn) dJ5_replacementTreeNode_31 okJ5_transferLinks q1352 q1354 qs8 (sF_at (by assumption)) rfl rfl rfl (Nat.le_of_ble_eq_true rfl) (Nat.le_of_ble_eq_true rfl) (by omega) ?_
  rintro _ _ - - ⟨rfl, F2, rfl, lo3, fr⟩
  refine aft_0 (pc2 := 34) ?_ rfl
  refine wa_aloadV (pc := 34) (y := mJ5_replacementTreeNode) dJ5_replacementTreeNode_34 rfl (by first | exact rf_s _ | exact rf_n | exact rf_q _) ?_
  refine wa_areturnV (pc := 36) (y := mJ5_replacementTreeNode) (.object "java/util/HashMap$TreeNode") dJ5_replacementTreeNode_36 rfl (Or.inl ⟨_, rfl⟩) (by first | exact rf_s _ | exact rf_n | exact rf_q _) (fin _ F2 rfl lo3 fr)
end NODES2
