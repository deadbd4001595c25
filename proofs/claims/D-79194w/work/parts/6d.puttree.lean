/-! ===== TreeNode: putTreeVal ===== -/
/-- a new tree node of the number x0 at the end of the order, and in the bin bi of tb -/
def PtvQ (h : AH) (F : Nat → Nat → Value) (m tb bi : Nat) (ns B : List Nat) (κ : Nat → Nat) (x0 kk vv : Nat) (h' : AH) : Prop :=
  ∃ (F2 : Nat → Nat → Value) (B2 : List Nat), h' = sF (hNew h 14 11) F2 ∧ (∀ p, p ∈ B2 ↔ p ∈ B ∨ p = h.1) ∧ B2.Nodup ∧ F2 tb bi = va_rf B2.head? ∧ TBin (hNew h 14 11) F2 B2 (upo κ h.1 x0) ∧ LO F2 m (ns ++ [h.1]) ∧ F2 h.1 0 = .int (Int32.ofNat x0) ∧ F2 h.1 1 = .ref kk ∧ F2 h.1 2 = .ref vv ∧
    ∀ b j, b ≠ h.1 → ¬ (b = tb ∧ j = bi) → ¬ (b ∈ B ∧ (j = 3 ∨ j = 6 ∨ j = 7 ∨ j = 8 ∨ j = 9 ∨ j = 10)) → ¬ (b = m ∧ (j = 8 ∨ j = 9)) → ¬ (b ∈ ns ∧ (j = 4 ∨ j = 5)) → F2 b j = F b j
section PUTTREE
variable {G : GG} {d n : Nat} {h h2 : AH} {F F2 F3 : Nat → Nat → Value} {S : Nat → Prop} {κ : Nat → Nat} {tb bi k p q x root m : Nat} {B a b ns : List Nat}
theorem TL.ext {L R P : Nat → Option Nat} {C : Nat → Bool} (tl : TL h F S L R P C) (e : Ext h h2) : TL h2 F S L R P C := fun p hp => by
  obtain ⟨p1, p2⟩ := tl p hp
  exact ⟨p1.ext e, p2⟩
theorem DL.insAfter {i j : Nat} {F5 : Nat → Nat → Value} (dl : DL F i j (a ++ p :: b)) (hn : (a ++ p :: b).Nodup) (h1 : ∀ z, z ∈ a ++ [p] → F5 z i = if p = z then .ref x else F z i) (h2 : ∀ z, z ∈ a ++ [p] → F5 z j = F z j) (h3 : ∀ z, z ∈ b → F5 z i = F z i) (h4 : ∀ z, z ∈ b → F5 z j = if b.head? = some z then .ref x else F z j) (h5 : F5 x i = va_rf b.head?) (h6 : F5 x j = .ref p) : DL F5 i j (a ++ p :: x :: b) := by
  have e : a ++ p :: b = (a ++ [p]) ++ ([] ++ b) := by simp
  rw [e] at dl hn
  have := dl.splice (F2 := F5) (c2 := [x]) hn (fun z hz => ?_) h2 h3 (fun z hz => ?_) ⟨by simpa using h5, trivial⟩ ⟨by simpa [va_rf] using h6, trivial⟩
  · simpa using this
  · rw [h1 z hz]
    simp [va_rf]
  · rw [h4 z hz]
    simp [va_rf]
/-- the new node x stands in the tree; it comes into the chain behind p -/
theorem ptv_263 {p0 : Nat} {v4 v5 v6 v7 v9 v10 v11 v12 : Value} {Q : RR → AH → Prop} {L4 R4 P4 : Nat → Option Nat} {C4 : Nat → Bool} {lo4 hi4 rk4 : Nat → Nat} {M4 : Nat} {F3 : Nat → Nat → Value} (hd : 4 ≤ d) (hG : StG G) (ht : Is h tb 36 (2 ^ k)) (hk : k < 16) (hB : B = a ++ p :: b) (hBn : B.Nodup) (hI : ∀ p, p ∈ B → Is h p 14 11)
    (hx : Is h x 14 11) (hxB : x ∉ B) (dl : DL F3 3 9 B) (x3 : F3 x 3 = va_rf b.head?) (hκ : ∀ z, z ∈ B ∨ z = x → F3 z 0 = .int (Int32.ofNat (κ z)) ∧ κ z < 1200 ∧ κ z % 2 ^ k = bi) (hs : F3 tb bi = va_rf B.head?)
    (t4 : T0 (fun z => z ∈ B ∨ z = x) κ root L4 R4 P4 lo4 hi4 rk4 1200 M4) (KT : ∀ F5 : Nat → Nat → Value, (∀ z j, z ∈ B → (j = 6 ∨ j = 7 ∨ j = 8 ∨ j = 10) → F5 z j = F3 z j) → F5 x 6 = .ref p → F5 x 7 = F3 x 7 → F5 x 8 = F3 x 8 → F5 x 10 = F3 x 10 → TL h F5 (fun z => z ∈ B ∨ z = x) L4 R4 P4 C4)
    (KQ : ∀ (F6 : Nat → Nat → Value) (B2 : List Nat), (∀ z, z ∈ B2 ↔ z ∈ B ∨ z = x) → B2.Nodup → F6 tb bi = va_rf B2.head? → TBin h F6 B2 κ → FrP (fun z j => z = tb ∧ j = bi ∨ (z ∈ B ∨ z = x) ∧ (j = 3 ∨ j = 6 ∨ j = 7 ∨ j = 8 ∨ j = 9 ∨ j = 10)) F3 F6 → Q (.inl (some .null)) (sF h F6)) :
    WA G d mJ26_putTreeVal 263 [.ref p0, .ref m, .ref tb, v4, v5, v6, .null, v7, .ref root, v9, v10, v11, v12, .ref p, va_rf b.head?, .ref x] [] (sF h F3) Q := by
  have hpB : p ∈ B := by rw [hB]; simp
  have hpI := hI p hpB
  have hpx : p ≠ x := fun e => hxB (e ▸ hpB)
  have hn2 : (∀ z, z ∈ a → z ≠ p ∧ z ∉ b) ∧ ∀ z, z ∈ b → z ≠ p ∧ z ∉ a := by rw [hB] at hBn; grind [List.nodup_append]
  have hab : ∀ z, z ∈ a ++ p :: b → z ≠ x := fun z hz e => hxB (by rw [hB, ← e]; exact hz)
  have hnt : ∀ z, z ∈ B ∨ z = x → z ≠ tb := fun z hz => hz.elim (fun hz => (hI z hz).ne ht (by decide)) (fun hz => by rw [hz]; exact hx.ne ht (by decide))
  have fin : ∀ (F5 : Nat → Nat → Value) , DL F5 3 9 (a ++ p :: x :: b) → FrP (fun z j => (z ∈ B ∨ z = x) ∧ (j = 3 ∨ j = 6 ∨ j = 9)) F3 F5 → F5 x 6 = .ref p → (∀ z, z ∈ B → F5 z 6 = F3 z 6) →
      WA G d mJ26_putTreeVal 298 [.ref p0, .ref m, .ref tb, v4, v5, v6, .null, v7, .ref root, v9, v10, v11, v12, .ref p, va_rf b.head?, .ref x] [] (sF h F5) Q := by
    intro F5 dl5 fr5 x6 z6
    have tl5 := KT F5 (fun z j hz hj => by
      rcases hj with rfl | hj
      · exact z6 z hz
      · exact fr5 z j fun e => by omega) x6 (fr5 x 7 fun e => by omega) (fr5 x 8 fun e => by omega) (fr5 x 10 fun e => by omega)
    have hB3 : ∀ z, z ∈ a ++ p :: x :: b ↔ z ∈ B ∨ z = x := fun z => by rw [hB]; simp; grind
    have hiff : (fun z => z ∈ a ++ p :: x :: b) = (fun z => z ∈ B ∨ z = x) := funext fun z => propext (hB3 z)
    have hB3n : (a ++ p :: x :: b).Nodup := by rw [hB] at hBn hxB; grind [List.nodup_append]
    refine wa_aloadV_n (pc := 298) (y := mJ26_putTreeVal) dJ26_putTreeVal_298 rfl (by first | exact rf_s _ | exact rf_n | exact rf_q _) ?_
    refine wa_aloadV (pc := 299) (y := mJ26_putTreeVal) dJ26_putTreeVal_299 rfl (by first | exact rf_s _ | exact rf_n | exact rf_q _) ?_
    refine wa_aloadV (pc := 301) (y := mJ26_putTreeVal) dJ26_putTreeVal_301 rfl (by first | exact rf_s _ | exact rf_n | exact rf_q _) ?_
    refine wa_callS (pc := 303) (s_J26_balanceInsertion (d := d - 1) (by omega) t4 tl5 (Or.inr rfl)) dJ26_putTreeVal_303 okJ26_balanceInsertion q1361 q1362 rfl rfl (Nat.le_of_ble_eq_true rfl) (Nat.le_of_ble_eq_true rfl) (by omega) ?_
    rintro _ _ - - ⟨root2, F6, rfl, rfl, f6, t6⟩
    refine aft_v (pc2 := 306) ?_ rfl
    have hr2 := t6.mem
    have g6 : ∀ z j, (z ∈ B ∨ z = x) → (j < 3 ∨ j = 4 ∨ j = 5) → F6 z j = F3 z j := fun z j hz hj => (f6 z j fun e => by omega).trans (fr5 z j fun e => by omega)
    have hs6 : F6 tb bi = va_rf (a ++ p :: x :: b).head? := ((f6 tb bi fun e => hnt tb e.1 rfl).trans ((fr5 tb bi fun e => hnt tb e.1 rfl).trans hs)).trans (by rw [hB]; cases a <;> rfl)
    have dl6 : DL F6 3 9 (a ++ p :: x :: b) := ⟨ChE_congr (fun z hz => f6 z 3 fun e => by omega) dl5.1, PvE_congr (fun z hz => f6 z 9 fun e => by omega) dl5.2⟩
    refine wa_callS (pc := 306) (tf_end (d := d - 1) (mF := F6) (B := a ++ p :: x :: b) hG ht hk hB3n (fun z hz => ((hB3 z).mp hz).elim (hI z) (fun e => e ▸ hx)) ((g6 root2 0 hr2 (by decide)).trans (hκ root2 hr2).1) (hκ root2 hr2).2.1 (hκ root2 hr2).2.2 hs6 dl6 (by rw [hiff]; exact t6) FrP.refl) dJ26_putTreeVal_306 okJ26_moveRootToFront q1370 q1371 rfl rfl (Nat.le_of_ble_eq_true rfl) (Nat.le_of_ble_eq_true rfl) (by omega) ?_
    rintro _ _ - - ⟨rfl, F7, B2, rfl, b1, b2, b3, b4, b5⟩
    refine aft_0 (pc2 := 309) ?_ rfl
    refine wa_null (pc := 309) (y := mJ26_putTreeVal) dJ26_putTreeVal_309 ?_
    refine wa_areturnV (pc := 310) (y := mJ26_putTreeVal) (.object "java/util/HashMap$TreeNode") dJ26_putTreeVal_310 rfl (Or.inl ⟨_, rfl⟩) (by first | exact rf_s _ | exact rf_n | exact rf_q _) (KQ F7 B2 (fun z => (b1 z).trans (hB3 z)) b2 b3 b4 (((fr5.mono fun z j hz => Or.inr ⟨hz.1, by omega⟩).trans (FrP.ofT f6 fun z j hz hj => Or.inr ⟨hz, by omega⟩)).trans (b5.mono fun z j hz => hz.imp id fun hz => ⟨(hB3 z).mp hz.1, hz.2⟩)))
  subst hB
  refine wa_aloadV (pc := 263) (y := mJ26_putTreeVal) dJ26_putTreeVal_263 rfl (by first | exact rf_s _ | exact rf_n | exact rf_q _) ?_
  refine wa_aloadV (pc := 265) (y := mJ26_putTreeVal) dJ26_putTreeVal_265 rfl (by first | exact rf_s _ | exact rf_n | exact rf_q _) ?_
  refine wf_put (k := 14) (l := 11) 3 (.object "java/util/HashMap$Node") dJ26_putTreeVal_267 (by assumption) rfl q1334 (Or.inr q1335) (Nat.le_of_ble_eq_true rfl) rfl (by decide +kernel) (by first | rfl | exact rf_nar _ | exact rf_nar2 _) (by first | rfl | exact rf_fit _ | exact rf_fit2 _) ?_
  refine wa_aloadV (pc := 270) (y := mJ26_putTreeVal) dJ26_putTreeVal_270 rfl (by first | exact rf_s _ | exact rf_n | exact rf_q _) ?_
  refine wa_aloadV (pc := 272) (y := mJ26_putTreeVal) dJ26_putTreeVal_272 rfl (by first | exact rf_s _ | exact rf_n | exact rf_q _) ?_
  refine wa_aloadV (pc := 274) (y := mJ26_putTreeVal) dJ26_putTreeVal_274 rfl (by first | exact rf_s _ | exact rf_n | exact rf_q _) ?_
  refine wa_dup_x1 (pc := 276) (y := mJ26_putTreeVal) dJ26_putTreeVal_276 (by first | rfl | exact rf_cat _) (by first | rfl | exact rf_cat _) ?_
  refine wf_put (k := 14) (l := 11) 9 (.object "java/util/HashMap$TreeNode") dJ26_putTreeVal_277 (by assumption) rfl q1617 (Or.inl rfl) (Nat.le_of_ble_eq_true rfl) rfl (by decide +kernel) (by first | rfl | exact rf_nar _ | exact rf_nar2 _) (by first | rfl | exact rf_fit _ | exact rf_fit2 _) ?_
  refine wf_put (k := 14) (l := 11) 6 (.object "java/util/HashMap$TreeNode") dJ26_putTreeVal_280 (by assumption) rfl q1614 (Or.inl rfl) (Nat.le_of_ble_eq_true rfl) rfl (by decide +kernel) (by first | rfl | exact rf_nar _ | exact rf_nar2 _) (by first | rfl | exact rf_fit _ | exact rf_fit2 _) ?_
  refine wa_aloadV (pc := 283) (y := mJ26_putTreeVal) dJ26_putTreeVal_283 rfl (by first | exact rf_s _ | exact rf_n | exact rf_q _) ?_
  refine wa_ifnullV (pc := 285) 298 dJ26_putTreeVal_285 rfl (by first | exact rf_s _ | exact rf_n | exact rf_q _) (fun hb285 => ?_) (fun a285 hb285 => ?_)
  · have hg := head_none hb285
    rw [hb285]
    have dl9 := dl; rw [← hb285]; refine fin _ (dl.insAfter hBn (fun z hz => ?_) (fun z hz => ?_) (fun z hz => ?_) (fun z hz => ?_) ?_ ?_) (by repeat (first | exact FrP.refl | refine FrP.upd ?_ (by first | exact ⟨Or.inr rfl, by decide⟩ | exact ⟨Or.inl hpB, by decide⟩ | exact ⟨Or.inl (List.mem_append_right a (List.mem_cons_of_mem p hg)), by decide⟩))) ?_ (fun z hz => ?_) <;> grind [updF_eq, va_rf]
  · have hg := head_mem hb285
    have hgI := hI _ (List.mem_append_right a (List.mem_cons_of_mem p hg))
    have hgx := hab _ (List.mem_append_right a (List.mem_cons_of_mem p hg))
    rw [hb285]
    refine wa_aloadV (pc := 288) (y := mJ26_putTreeVal) dJ26_putTreeVal_288 rfl (by first | exact rf_s _ | exact rf_n | exact rf_q _) ?_
    refine wa_castS (pc := 290) (y := mJ26_putTreeVal) (k := 14) dJ26_putTreeVal_290 (sF_at (by assumption)) rfl q1290 ?_
    refine wa_aloadV (pc := 293) (y := mJ26_putTreeVal) dJ26_putTreeVal_293 rfl (by first | exact rf_s _ | exact rf_n | exact rf_q _) ?_
    refine wf_put (k := 14) (l := 11) 9 (.object "java/util/HashMap$TreeNode") dJ26_putTreeVal_295 (by assumption) rfl q1617 (Or.inl rfl) (Nat.le_of_ble_eq_true rfl) rfl (by decide +kernel) (by first | rfl | exact rf_nar _ | exact rf_nar2 _) (by first | rfl | exact rf_fit _ | exact rf_fit2 _) ?_
    have dl9 := dl; rw [← hb285]; refine fin _ (dl.insAfter hBn (fun z hz => ?_) (fun z hz => ?_) (fun z hz => ?_) (fun z hz => ?_) ?_ ?_) (by repeat (first | exact FrP.refl | refine FrP.upd ?_ (by first | exact ⟨Or.inr rfl, by decide⟩ | exact ⟨Or.inl hpB, by decide⟩ | exact ⟨Or.inl (List.mem_append_right a (List.mem_cons_of_mem p hg)), by decide⟩))) ?_ (fun z hz => ?_) <;> grind [updF_eq, va_rf]
theorem DL.mk9 {i j : Nat} (dl : DL F i j B) (h1 : ∀ z, z ∈ B → F2 z i = F z i) (h2 : ∀ z, z ∈ B → F2 z j = F z j) : DL F2 i j B := ⟨ChE_congr h1 dl.1, PvE_congr h2 dl.2⟩
theorem ptv_221L {p0 kk vv x0 : Nat} {v9 v11 v12 v14 v15 : Value} {L R P : Nat → Option Nat} {C : Nat → Bool} {lo0 hi rk : Nat → Nat} {M : Nat} (hd : 5 ≤ d) (hG : StG G) (hm : Is h m 12 12) (h11 : F m 11 = .int 0) (lo : LO F m ns) (hn : ns.Nodup) (hN : ∀ z, z ∈ ns → Nd h z) (ht : Is h tb 36 (2 ^ k)) (hk : k < 16) (hBn : B.Nodup) (hsub : ∀ z, z ∈ B → z ∈ ns) (hI : ∀ p, p ∈ B → Is h p 14 11)
    (nk : ∀ p, p ∈ B → NK h F p (κ p)) (hmod : ∀ p, p ∈ B → κ p % 2 ^ k = bi) (hs : F tb bi = va_rf B.head?) (dl : DL F 3 9 B) (hx : x0 < 1200) (hx0 : x0 % 2 ^ k = bi) (t : T0 (· ∈ B) κ root L R P lo0 hi rk 1200 M) (tl : TL h F (· ∈ B) L R P C) (hp : p ∈ B) (hl : L p = none) (l1 : lo0 p ≤ x0) (l2 : x0 < κ p) :
    WA G d mJ26_putTreeVal 221 [.ref p0, .ref m, .ref tb, .int (Int32.ofNat x0), .ref kk, .ref vv, .null, .int 0, .ref root, v9, .int (-1), v11, v12, .ref p, v14, v15] [] (sF h F) (fun r h' => r = .inl (some .null) ∧ PtvQ h F m tb bi ns B κ x0 kk vv h') := by
  obtain ⟨a, b, hB⟩ := List.append_of_mem hp
  have hpI := hI p hp
  have e3 : F p 3 = va_rf b.head? := by rw [hB] at dl; exact dl.fwd
  have hlt : ∀ z, z ∈ ns → z < h.1 := fun z hz => (hN z hz).lt
  have hpx : p ≠ h.1 := Nat.ne_of_lt hpI.lt
  have hxB : h.1 ∉ B := fun e => Nat.lt_irrefl _ (hlt _ (hsub _ e))
  have hmx : m ≠ h.1 := Nat.ne_of_lt hm.lt
  have htx : tb ≠ h.1 := Nat.ne_of_lt ht.lt
  have hzx : ∀ z, z ∈ B → z ≠ h.1 := fun z hz e => hxB (e ▸ hz)
  have hzm : ∀ z, z ∈ B → z ≠ m := fun z hz => (hI z hz).ne hm (by decide)
  have hptb : tb ≠ p := Ne.symm (hpI.ne ht (by decide))
  have htm : tb ≠ m := ht.ne hm (by decide)
  have htns : tb ∉ ns := fun e => (hN tb e).ne ht (by decide) (by decide) rfl
  have hgN : ∀ z, b.head? = some z → Is (hNew h 14 11) z 14 11 := fun z hz => (hI z (by rw [hB]; simp [head_mem hz])).new
  have hmI := hm.new (k2 := 14) (l2 := 11)
  have hpI2 := hpI.new (k2 := 14) (l2 := 11)
  refine wa_aloadV (pc := 221) (y := mJ26_putTreeVal) dJ26_putTreeVal_221 rfl (by first | exact rf_s _ | exact rf_n | exact rf_q _) ?_
  refine wf_get (k := 14) (l := 11) 3 dJ26_putTreeVal_223 (by assumption) rfl q1334 (Or.inr q1335) (Nat.le_of_ble_eq_true rfl) (Nat.le_of_ble_eq_true rfl) (by (repeat (first | exact updF_self _ _ _ _ | (apply updF_i; · decide) | (apply updF_a; · first | assumption | (apply Ne.symm; assumption) | omega) | (apply newF_a; · first | assumption | (apply Ne.symm; assumption) | omega) | exact newL_self (by rfl) | exact newF_self (by rfl) | (apply cpyF_a; · first | assumption | (apply Ne.symm; assumption) | omega))) <;> first | assumption | rfl) ?_
  refine wa_astoreV (pc := 226) (y := mJ26_putTreeVal) dJ26_putTreeVal_226 (Nat.le_of_ble_eq_true rfl) (by first | rfl | (simp [okst, rf_cat] <;> assumption)) (by first | exact rf_s _ | exact rf_n | exact rf_q _) ?_
  simp only [List.set_cons_zero, List.set_cons_succ]
  refine wa_aloadV_n (pc := 228) (y := mJ26_putTreeVal) dJ26_putTreeVal_228 rfl (by first | exact rf_s _ | exact rf_n | exact rf_q _) ?_
  refine wa_iload_n (pc := 229) (y := mJ26_putTreeVal) dJ26_putTreeVal_229 rfl ?_
  refine wa_aloadV (pc := 230) (y := mJ26_putTreeVal) dJ26_putTreeVal_230 rfl (by first | exact rf_s _ | exact rf_n | exact rf_q _) ?_
  refine wa_aloadV (pc := 232) (y := mJ26_putTreeVal) dJ26_putTreeVal_232 rfl (by first | exact rf_s _ | exact rf_n | exact rf_q _) ?_
  refine wa_aloadV (pc := 234) (y := mJ26_putTreeVal) dJ26_putTreeVal_234 rfl (by first | exact rf_s _ | exact rf_n | exact rf_q _) ?_
  refine wa_callW (k := 12) (pc := 236) (owner := "java/util/HashMap") (s_J5_newTreeNode (d := d - 1) (nx := b.head?) (by omega) hm h11 lo hn hN) dJ26_putTreeVal_236 okJ5_newTreeNode rfl q1602 q1604 (hDc_decl q1637) (by decide) q1605 q1606 (sF_at (by assumption)) rfl rfl rfl rfl (by first | exact Nat.le_of_ble_eq_true rfl | (simp [lg_sl, rf_cat]; exact Nat.le_of_ble_eq_true rfl) | (simp [lg_sl, rf_cat]; done)) (by first | exact Nat.le_of_ble_eq_true rfl | (simp [lg_sl, rf_cat]; exact Nat.le_of_ble_eq_true rfl) | (simp [lg_sl, rf_cat]; done)) (by omega) ?_
  rintro _ _ - - ⟨rfl, F2, rfl, n3, n4, n5, n6, n7, n8, n9⟩
  refine aft_v (pc2 := 239) ?_ rfl
  obtain ⟨m6, m7, m8, m9, m10⟩ := n8 rfl
  have hold : ∀ z j, z ∈ B → j ≠ 4 ∧ j ≠ 5 → F2 z j = F z j := fun z j hz hj => n9 z j (hzx z hz) (fun e => hzm z hz e.1) (fun e => by omega)
  have hu : ∀ z, z ∈ B → upo κ h.1 x0 z = κ z := fun z hz => if_neg (hzx z hz)
  have hux : upo κ h.1 x0 h.1 = x0 := if_pos rfl
  have t9 := (t.congrK hu).insL (x := h.1) (xp := p) hp hxB hl (by rw [hux]; exact l1) (by rw [hux, hu p hp]; exact l2)
  refine wa_astoreV (pc := 239) (y := mJ26_putTreeVal) dJ26_putTreeVal_239 (Nat.le_of_ble_eq_true rfl) (by first | rfl | (simp [okst, rf_cat] <;> assumption)) (by first | exact rf_s _ | exact rf_n | exact rf_q _) ?_
  simp only [List.set_cons_zero, List.set_cons_succ]
  refine wa_iload (pc := 241) (y := mJ26_putTreeVal) dJ26_putTreeVal_241 rfl ?_
  refine wa_if_gt (pc := 243) 256 dJ26_putTreeVal_243 rfl (fun hb243 => absurd hb243 (by decide)) (fun hb243 => ?_)
  refine wa_aloadV (pc := 246) (y := mJ26_putTreeVal) dJ26_putTreeVal_246 rfl (by first | exact rf_s _ | exact rf_n | exact rf_q _) ?_
  refine wa_aloadV (pc := 248) (y := mJ26_putTreeVal) dJ26_putTreeVal_248 rfl (by first | exact rf_s _ | exact rf_n | exact rf_q _) ?_
  refine wf_put (k := 14) (l := 11) 7 (.object "java/util/HashMap$TreeNode") dJ26_putTreeVal_250 (by assumption) rfl q1615 (Or.inl rfl) (Nat.le_of_ble_eq_true rfl) rfl (by decide +kernel) (by first | rfl | exact rf_nar _ | exact rf_nar2 _) (by first | rfl | exact rf_fit _ | exact rf_fit2 _) ?_
  refine wa_goto (pc := 253) (y := mJ26_putTreeVal) 263 dJ26_putTreeVal_253 rfl ?_
  refine ptv_263 (h := hNew h 14 11) (κ := upo κ h.1 x0) (B := B) (d := d) (C4 := upo C h.1 false) (by omega) hG ht.new hk hB hBn (fun z hz => (hI z hz).new) Is.self hxB (DL.mk9 dl (fun z hz => ?_) (fun z hz => ?_)) ?_ (fun z hz => ?_) ?_ t9 (fun F5 q1 q2 q3 q4 q5 => ?_) (fun F6 B2 q1 q2 q3 q4 q5 => ⟨rfl, F6, B2, rfl, q1, q2, q3, q4, ?_, ?_, ?_, ?_, ?_⟩)
  · exact updF_i (by decide) (hold z 3 hz (by decide))
  · exact updF_i (by decide) (hold z 9 hz (by decide))
  · exact updF_a (Ne.symm hpx) n7
  · rcases hz with hz | rfl
    · rw [hu z hz, updF_i (by decide) (hold z 0 hz (by decide))]
      obtain ⟨f0, q, -, fK⟩ := nk z hz
      exact ⟨f0, fK.2.2.2, hmod z hz⟩
    · rw [hux]
      exact ⟨updF_a (Ne.symm hpx) n4, hx, hx0⟩
  · exact updF_a hptb ((n9 tb bi htx (fun e => htm e.1) (fun e => htns e.1)).trans hs)
  · exact ((tl.congr fun z j hz hj => hold z j hz (by omega)).ext Ext.new).insL hxB Is.self (fun z hz => (q1 z 6 hz (by decide)).trans (updF_i (by decide) rfl)) (fun z hz => (q1 z 7 hz (by decide)).trans (by by_cases e : z = p; rw [if_pos e, e]; exact updF_self _ _ _ _; rw [if_neg e]; exact updF_a e rfl)) (fun z hz => (q1 z 8 hz (by decide)).trans (by exact updF_i (by decide) rfl)) (fun z hz => (q1 z 10 hz (by decide)).trans (updF_i (by decide) rfl)) q2 (q3.trans (updF_a (Ne.symm hpx) m7)) (q4.trans (updF_a (Ne.symm hpx) m8)) (q5.trans (updF_a (Ne.symm hpx) m10)) hpx
  · refine n3.congr (F2 := F6) ?_ ?_ (fun z hz => ?_) (fun z hz => ?_)
    · exact (q5 m 8 (fun e => e.elim (fun e => htm e.1.symm) (fun e => e.1.elim (fun e => hzm m e rfl) hmx))).trans (updF_a (Ne.symm (hzm p hp)) rfl)
    · exact (q5 m 9 (fun e => e.elim (fun e => htm e.1.symm) (fun e => e.1.elim (fun e => hzm m e rfl) hmx))).trans (updF_a (Ne.symm (hzm p hp)) rfl)
    · exact (q5 z 4 (fun e => e.elim (fun e => by rcases List.mem_append.mp hz with h9 | h9; exact htns (e.1 ▸ h9); simp at h9; exact htx (e.1.symm.trans h9)) (fun e => by omega))).trans (updF_i (by decide) rfl)
    · exact (q5 z 5 (fun e => e.elim (fun e => by rcases List.mem_append.mp hz with h9 | h9; exact htns (e.1 ▸ h9); simp at h9; exact htx (e.1.symm.trans h9)) (fun e => by omega))).trans (updF_i (by decide) rfl)
  · exact (q5 h.1 0 (fun e => e.elim (fun e => htx e.1.symm) (fun e => by omega))).trans (updF_i (by decide) n4)
  · exact (q5 h.1 1 (fun e => e.elim (fun e => htx e.1.symm) (fun e => by omega))).trans (updF_i (by decide) n5)
  · exact (q5 h.1 2 (fun e => e.elim (fun e => htx e.1.symm) (fun e => by omega))).trans (updF_i (by decide) n6)
  · intro z j z1 z2 z3 z4 z5
    have g1 : F6 z j = updF F2 p 7 (.ref h.1) z j := q5 z j (fun e => e.elim z2 (fun e => e.1.elim (fun h9 => z3 ⟨h9, e.2⟩) z1))
    rw [g1]
    have hpj : ¬ (z = p ∧ j = 7) := fun e => z3 ⟨by rw [e.1]; exact hp, by omega⟩
    have g2 : updF F2 p 7 (.ref h.1) z j = F2 z j := by
      by_cases ez : z = p
      · exact (by subst ez; exact updF_i (fun ej => hpj ⟨rfl, ej⟩) rfl)
      · exact updF_a ez rfl
    rw [g2]
    exact n9 z j z1 z4 z5
theorem ptv_221R {p0 kk vv x0 : Nat} {v9 v11 v12 v14 v15 : Value} {L R P : Nat → Option Nat} {C : Nat → Bool} {lo0 hi rk : Nat → Nat} {M : Nat} (hd : 5 ≤ d) (hG : StG G) (hm : Is h m 12 12) (h11 : F m 11 = .int 0) (lo : LO F m ns) (hn : ns.Nodup) (hN : ∀ z, z ∈ ns → Nd h z) (ht : Is h tb 36 (2 ^ k)) (hk : k < 16) (hBn : B.Nodup) (hsub : ∀ z, z ∈ B → z ∈ ns) (hI : ∀ p, p ∈ B → Is h p 14 11)
    (nk : ∀ p, p ∈ B → NK h F p (κ p)) (hmod : ∀ p, p ∈ B → κ p % 2 ^ k = bi) (hs : F tb bi = va_rf B.head?) (dl : DL F 3 9 B) (hx : x0 < 1200) (hx0 : x0 % 2 ^ k = bi) (t : T0 (· ∈ B) κ root L R P lo0 hi rk 1200 M) (tl : TL h F (· ∈ B) L R P C) (hp : p ∈ B) (hl : R p = none) (l1 : κ p < x0) (l2 : x0 < hi p) :
    WA G d mJ26_putTreeVal 221 [.ref p0, .ref m, .ref tb, .int (Int32.ofNat x0), .ref kk, .ref vv, .null, .int 0, .ref root, v9, .int (1), v11, v12, .ref p, v14, v15] [] (sF h F) (fun r h' => r = .inl (some .null) ∧ PtvQ h F m tb bi ns B κ x0 kk vv h') := by
  obtain ⟨a, b, hB⟩ := List.append_of_mem hp
  have hpI := hI p hp
  have e3 : F p 3 = va_rf b.head? := by rw [hB] at dl; exact dl.fwd
  have hlt : ∀ z, z ∈ ns → z < h.1 := fun z hz => (hN z hz).lt
  have hpx : p ≠ h.1 := Nat.ne_of_lt hpI.lt
  have hxB : h.1 ∉ B := fun e => Nat.lt_irrefl _ (hlt _ (hsub _ e))
  have hmx : m ≠ h.1 := Nat.ne_of_lt hm.lt
  have htx : tb ≠ h.1 := Nat.ne_of_lt ht.lt
  have hzx : ∀ z, z ∈ B → z ≠ h.1 := fun z hz e => hxB (e ▸ hz)
  have hzm : ∀ z, z ∈ B → z ≠ m := fun z hz => (hI z hz).ne hm (by decide)
  have hptb : tb ≠ p := Ne.symm (hpI.ne ht (by decide))
  have htm : tb ≠ m := ht.ne hm (by decide)
  have htns : tb ∉ ns := fun e => (hN tb e).ne ht (by decide) (by decide) rfl
  have hgN : ∀ z, b.head? = some z → Is (hNew h 14 11) z 14 11 := fun z hz => (hI z (by rw [hB]; simp [head_mem hz])).new
  have hmI := hm.new (k2 := 14) (l2 := 11)
  have hpI2 := hpI.new (k2 := 14) (l2 := 11)
  refine wa_aloadV (pc := 221) (y := mJ26_putTreeVal) dJ26_putTreeVal_221 rfl (by first | exact rf_s _ | exact rf_n | exact rf_q _) ?_
  refine wf_get (k := 14) (l := 11) 3 dJ26_putTreeVal_223 (by assumption) rfl q1334 (Or.inr q1335) (Nat.le_of_ble_eq_true rfl) (Nat.le_of_ble_eq_true rfl) (by (repeat (first | exact updF_self _ _ _ _ | (apply updF_i; · decide) | (apply updF_a; · first | assumption | (apply Ne.symm; assumption) | omega) | (apply newF_a; · first | assumption | (apply Ne.symm; assumption) | omega) | exact newL_self (by rfl) | exact newF_self (by rfl) | (apply cpyF_a; · first | assumption | (apply Ne.symm; assumption) | omega))) <;> first | assumption | rfl) ?_
  refine wa_astoreV (pc := 226) (y := mJ26_putTreeVal) dJ26_putTreeVal_226 (Nat.le_of_ble_eq_true rfl) (by first | rfl | (simp [okst, rf_cat] <;> assumption)) (by first | exact rf_s _ | exact rf_n | exact rf_q _) ?_
  simp only [List.set_cons_zero, List.set_cons_succ]
  refine wa_aloadV_n (pc := 228) (y := mJ26_putTreeVal) dJ26_putTreeVal_228 rfl (by first | exact rf_s _ | exact rf_n | exact rf_q _) ?_
  refine wa_iload_n (pc := 229) (y := mJ26_putTreeVal) dJ26_putTreeVal_229 rfl ?_
  refine wa_aloadV (pc := 230) (y := mJ26_putTreeVal) dJ26_putTreeVal_230 rfl (by first | exact rf_s _ | exact rf_n | exact rf_q _) ?_
  refine wa_aloadV (pc := 232) (y := mJ26_putTreeVal) dJ26_putTreeVal_232 rfl (by first | exact rf_s _ | exact rf_n | exact rf_q _) ?_
  refine wa_aloadV (pc := 234) (y := mJ26_putTreeVal) dJ26_putTreeVal_234 rfl (by first | exact rf_s _ | exact rf_n | exact rf_q _) ?_
  refine wa_callW (k := 12) (pc := 236) (owner := "java/util/HashMap") (s_J5_newTreeNode (d := d - 1) (nx := b.head?) (by omega) hm h11 lo hn hN) dJ26_putTreeVal_236 okJ5_newTreeNode rfl q1602 q1604 (hDc_decl q1637) (by decide) q1605 q1606 (sF_at (by assumption)) rfl rfl rfl rfl (by first | exact Nat.le_of_ble_eq_true rfl | (simp [lg_sl, rf_cat]; exact Nat.le_of_ble_eq_true rfl) | (simp [lg_sl, rf_cat]; done)) (by first | exact Nat.le_of_ble_eq_true rfl | (simp [lg_sl, rf_cat]; exact Nat.le_of_ble_eq_true rfl) | (simp [lg_sl, rf_cat]; done)) (by omega) ?_
  rintro _ _ - - ⟨rfl, F2, rfl, n3, n4, n5, n6, n7, n8, n9⟩
  refine aft_v (pc2 := 239) ?_ rfl
  obtain ⟨m6, m7, m8, m9, m10⟩ := n8 rfl
  have hold : ∀ z j, z ∈ B → j ≠ 4 ∧ j ≠ 5 → F2 z j = F z j := fun z j hz hj => n9 z j (hzx z hz) (fun e => hzm z hz e.1) (fun e => by omega)
  have hu : ∀ z, z ∈ B → upo κ h.1 x0 z = κ z := fun z hz => if_neg (hzx z hz)
  have hux : upo κ h.1 x0 h.1 = x0 := if_pos rfl
  have t9 := (t.congrK hu).insR (x := h.1) (xp := p) hp hxB hl (by rw [hux, hu p hp]; exact l1) (by rw [hux]; exact l2)
  refine wa_astoreV (pc := 239) (y := mJ26_putTreeVal) dJ26_putTreeVal_239 (Nat.le_of_ble_eq_true rfl) (by first | rfl | (simp [okst, rf_cat] <;> assumption)) (by first | exact rf_s _ | exact rf_n | exact rf_q _) ?_
  simp only [List.set_cons_zero, List.set_cons_succ]
  refine wa_iload (pc := 241) (y := mJ26_putTreeVal) dJ26_putTreeVal_241 rfl ?_
  refine wa_if_gt (pc := 243) 256 dJ26_putTreeVal_243 rfl (fun hb243 => ?_) (fun hb243 => absurd (by decide) hb243)
  refine wa_aloadV (pc := 256) (y := mJ26_putTreeVal) dJ26_putTreeVal_256 rfl (by first | exact rf_s _ | exact rf_n | exact rf_q _) ?_
  refine wa_aloadV (pc := 258) (y := mJ26_putTreeVal) dJ26_putTreeVal_258 rfl (by first | exact rf_s _ | exact rf_n | exact rf_q _) ?_
  refine wf_put (k := 14) (l := 11) 8 (.object "java/util/HashMap$TreeNode") dJ26_putTreeVal_260 (by assumption) rfl q1616 (Or.inl rfl) (Nat.le_of_ble_eq_true rfl) rfl (by decide +kernel) (by first | rfl | exact rf_nar _ | exact rf_nar2 _) (by first | rfl | exact rf_fit _ | exact rf_fit2 _) ?_
  refine ptv_263 (h := hNew h 14 11) (κ := upo κ h.1 x0) (B := B) (d := d) (C4 := upo C h.1 false) (by omega) hG ht.new hk hB hBn (fun z hz => (hI z hz).new) Is.self hxB (DL.mk9 dl (fun z hz => ?_) (fun z hz => ?_)) ?_ (fun z hz => ?_) ?_ t9 (fun F5 q1 q2 q3 q4 q5 => ?_) (fun F6 B2 q1 q2 q3 q4 q5 => ⟨rfl, F6, B2, rfl, q1, q2, q3, q4, ?_, ?_, ?_, ?_, ?_⟩)
  · exact updF_i (by decide) (hold z 3 hz (by decide))
  · exact updF_i (by decide) (hold z 9 hz (by decide))
  · exact updF_a (Ne.symm hpx) n7
  · rcases hz with hz | rfl
    · rw [hu z hz, updF_i (by decide) (hold z 0 hz (by decide))]
      obtain ⟨f0, q, -, fK⟩ := nk z hz
      exact ⟨f0, fK.2.2.2, hmod z hz⟩
    · rw [hux]
      exact ⟨updF_a (Ne.symm hpx) n4, hx, hx0⟩
  · exact updF_a hptb ((n9 tb bi htx (fun e => htm e.1) (fun e => htns e.1)).trans hs)
  · exact ((tl.congr fun z j hz hj => hold z j hz (by omega)).ext Ext.new).insR hxB Is.self (fun z hz => (q1 z 6 hz (by decide)).trans (updF_i (by decide) rfl)) (fun z hz => (q1 z 7 hz (by decide)).trans (by exact updF_i (by decide) rfl)) (fun z hz => (q1 z 8 hz (by decide)).trans (by by_cases e : z = p; rw [if_pos e, e]; exact updF_self _ _ _ _; rw [if_neg e]; exact updF_a e rfl)) (fun z hz => (q1 z 10 hz (by decide)).trans (updF_i (by decide) rfl)) q2 (q3.trans (updF_a (Ne.symm hpx) m7)) (q4.trans (updF_a (Ne.symm hpx) m8)) (q5.trans (updF_a (Ne.symm hpx) m10)) hpx
  · refine n3.congr (F2 := F6) ?_ ?_ (fun z hz => ?_) (fun z hz => ?_)
    · exact (q5 m 8 (fun e => e.elim (fun e => htm e.1.symm) (fun e => e.1.elim (fun e => hzm m e rfl) hmx))).trans (updF_a (Ne.symm (hzm p hp)) rfl)
    · exact (q5 m 9 (fun e => e.elim (fun e => htm e.1.symm) (fun e => e.1.elim (fun e => hzm m e rfl) hmx))).trans (updF_a (Ne.symm (hzm p hp)) rfl)
    · exact (q5 z 4 (fun e => e.elim (fun e => by rcases List.mem_append.mp hz with h9 | h9; exact htns (e.1 ▸ h9); simp at h9; exact htx (e.1.symm.trans h9)) (fun e => by omega))).trans (updF_i (by decide) rfl)
    · exact (q5 z 5 (fun e => e.elim (fun e => by rcases List.mem_append.mp hz with h9 | h9; exact htns (e.1 ▸ h9); simp at h9; exact htx (e.1.symm.trans h9)) (fun e => by omega))).trans (updF_i (by decide) rfl)
  · exact (q5 h.1 0 (fun e => e.elim (fun e => htx e.1.symm) (fun e => by omega))).trans (updF_i (by decide) n4)
  · exact (q5 h.1 1 (fun e => e.elim (fun e => htx e.1.symm) (fun e => by omega))).trans (updF_i (by decide) n5)
  · exact (q5 h.1 2 (fun e => e.elim (fun e => htx e.1.symm) (fun e => by omega))).trans (updF_i (by decide) n6)
  · intro z j z1 z2 z3 z4 z5
    have g1 : F6 z j = updF F2 p 8 (.ref h.1) z j := q5 z j (fun e => e.elim z2 (fun e => e.1.elim (fun h9 => z3 ⟨h9, e.2⟩) z1))
    rw [g1]
    have hpj : ¬ (z = p ∧ j = 8) := fun e => z3 ⟨by rw [e.1]; exact hp, by omega⟩
    have g2 : updF F2 p 8 (.ref h.1) z j = F2 z j := by
      by_cases ez : z = p
      · exact (by subst ez; exact updF_i (fun ej => hpj ⟨rfl, ej⟩) rfl)
      · exact updF_a ez rfl
    rw [g2]
    exact n9 z j z1 z4 z5
theorem s_J26_putTreeVal {p0 kk vv x0 : Nat} {tl0 : List Nat} (hd : 5 ≤ d) (hG : StG G) (hm : Is h m 12 12) (h11 : F m 11 = .int 0) (lo : LO F m ns) (hnn : ns.Nodup) (hN : ∀ z, z ∈ ns → Nd h z) (ht : Is h tb 36 (2 ^ k)) (hk : k < 16) (hB : B = p0 :: tl0) (hBn : B.Nodup) (hsub : ∀ z, z ∈ B → z ∈ ns) (hI : ∀ p, p ∈ B → Is h p 14 11)
    (nk : ∀ p, p ∈ B → NK h F p (κ p)) (hinj : ∀ p q, p ∈ B → q ∈ B → κ p = κ q → p = q) (hmod : ∀ p, p ∈ B → κ p % 2 ^ k = bi) (hs : F tb bi = va_rf B.head?) (tb0 : TBin h F B κ) (K : KeyAt h F kk x0) (hx0 : x0 % 2 ^ k = bi) :
    MA G d mJ26_putTreeVal [.ref p0, .ref m, .ref tb, .int (Int32.ofNat x0), .ref kk, .ref vv] (sF h F) (fun r h' => (∃ q, q ∈ B ∧ κ q = x0 ∧ r = .inl (some (.ref q)) ∧ h' = sF h F) ∨ (∀ q, q ∈ B → κ q ≠ x0) ∧ r = .inl (some .null) ∧ PtvQ h F m tb bi ns B κ x0 kk vv h') := by
  obtain ⟨dl, root, L, R, P, C, lo0, hi, rk, M, t, tl⟩ := tb0
  have K1 := K.1
  have hx := K.2.2.2
  have hp0 : p0 ∈ B := by rw [hB]; simp
  obtain ⟨p1, p2, p3, p4, p5⟩ := tl p0 hp0
  have tr := t.2 root t.1.1
  have hr := tr.2.1 t.1.2
  have loop : ∀ (n p : Nat) (v10 v11 v12 v13 v14 v15 : Value), v10.category = 1 → v11.category = 1 → v12.category = 1 → v13.category = 1 → p ∈ B → M - rk p < n → lo0 p ≤ x0 → x0 < hi p →
      WA G d mJ26_putTreeVal 27 [.ref p0, .ref m, .ref tb, .int (Int32.ofNat x0), .ref kk, .ref vv, .null, .int 0, .ref root, .ref p, v10, v11, v12, v13, v14, v15] [] (sF h F) (fun r h' => (∃ q, q ∈ B ∧ κ q = x0 ∧ r = .inl (some (.ref q)) ∧ h' = sF h F) ∨ (∀ q, q ∈ B → κ q ≠ x0) ∧ r = .inl (some .null) ∧ PtvQ h F m tb bi ns B κ x0 kk vv h') := by
    intro n
    induction n with
    | zero => exact fun p v10 v11 v12 v13 v14 v15 _ _ _ _ hp hn => absurd hn (Nat.not_lt_zero _)
    | succ n ih =>
      intro p v10 v11 v12 v13 v14 v15 c10 c11 c12 c13 hp hn l1 l2
      have tp := t.2 p hp
      obtain ⟨q1, q2, q3, q4, q5⟩ := tl p hp
      obtain ⟨f0, kq, f1, fK⟩ := nk p hp
      have hκp := fK.2.2.2
      have down : ∀ q, q ∈ B → κ q = x0 → p = q ∨ (x0 < κ p ∧ ∃ c, L p = some c) ∨ (κ p < x0 ∧ ∃ c, R p = some c) := fun q hq e => by
        have := t.down hp hq (by omega) (by omega) hinj
        rw [e] at this
        rcases this with h | ⟨h, c, h2, -⟩ | ⟨h, c, h2, -⟩
        · exact Or.inl h
        · exact Or.inr (Or.inl ⟨h, c, h2⟩)
        · exact Or.inr (Or.inr ⟨h, c, h2⟩)
      refine wa_aloadV (pc := 27) (y := mJ26_putTreeVal) dJ26_putTreeVal_27 rfl (by first | exact rf_s _ | exact rf_n | exact rf_q _) ?_
      refine wf_get (k := 14) (l := 11) 0 dJ26_putTreeVal_29 (by assumption) rfl q1314 (Or.inr q1315) (Nat.le_of_ble_eq_true rfl) (Nat.le_of_ble_eq_true rfl) (by (repeat (first | exact updF_self _ _ _ _ | (apply updF_i; · decide) | (apply updF_a; · first | assumption | (apply Ne.symm; assumption) | omega) | (apply newF_a; · first | assumption | (apply Ne.symm; assumption) | omega) | exact newL_self (by rfl) | exact newF_self (by rfl) | (apply cpyF_a; · first | assumption | (apply Ne.symm; assumption) | omega))) <;> first | assumption | rfl) ?_
      refine wa_dup (pc := 32) (y := mJ26_putTreeVal) dJ26_putTreeVal_32 (by first | rfl | exact rf_cat _) ?_
      refine wa_istore (pc := 33) (y := mJ26_putTreeVal) dJ26_putTreeVal_33 (Nat.le_of_ble_eq_true rfl) (by first | rfl | (simp [okst, rf_cat] <;> assumption)) ?_
      simp only [List.set_cons_zero, List.set_cons_succ]
      refine wa_iload_n (pc := 35) (y := mJ26_putTreeVal) dJ26_putTreeVal_35 rfl ?_
      refine wa_icmp_le (pc := 36) 45 dJ26_putTreeVal_36 rfl (fun hb36 => ?_) (fun hb36 => ?_)
      · have hb2 := (iN_le (by omega) (by omega)).mp hb36
        refine wa_iload (pc := 45) (y := mJ26_putTreeVal) dJ26_putTreeVal_45 rfl ?_
        refine wa_iload_n (pc := 47) (y := mJ26_putTreeVal) dJ26_putTreeVal_47 rfl ?_
        refine wa_icmp_ge (pc := 48) 57 dJ26_putTreeVal_48 rfl (fun hb48 => ?_) (fun hb48 => ?_)
        · have hb3 := (iN_le (by omega) (by omega)).mp hb48
          refine wa_aloadV (pc := 57) (y := mJ26_putTreeVal) dJ26_putTreeVal_57 rfl (by first | exact rf_s _ | exact rf_n | exact rf_q _) ?_
          refine wf_get (k := 14) (l := 11) 1 dJ26_putTreeVal_59 (by assumption) rfl q1321 (Or.inr q1322) (Nat.le_of_ble_eq_true rfl) (Nat.le_of_ble_eq_true rfl) (by (repeat (first | exact updF_self _ _ _ _ | (apply updF_i; · decide) | (apply updF_a; · first | assumption | (apply Ne.symm; assumption) | omega) | (apply newF_a; · first | assumption | (apply Ne.symm; assumption) | omega) | exact newL_self (by rfl) | exact newF_self (by rfl) | (apply cpyF_a; · first | assumption | (apply Ne.symm; assumption) | omega))) <;> first | assumption | rfl) ?_
          refine wa_dup (pc := 62) (y := mJ26_putTreeVal) dJ26_putTreeVal_62 (by first | rfl | exact rf_cat _) ?_
          refine wa_astoreV (pc := 63) (y := mJ26_putTreeVal) dJ26_putTreeVal_63 (Nat.le_of_ble_eq_true rfl) (by first | rfl | (simp [okst, rf_cat] <;> assumption)) (by first | exact rf_s _ | exact rf_n | exact rf_q _) ?_
          simp only [List.set_cons_zero, List.set_cons_succ]
          refine wa_aloadV (pc := 65) (y := mJ26_putTreeVal) dJ26_putTreeVal_65 rfl (by first | exact rf_s _ | exact rf_n | exact rf_q _) ?_
          refine wa_aceqV (pc := 67) 85 dJ26_putTreeVal_67 rfl (by first | exact rf_s _ | exact rf_n | exact rf_q _) (by first | exact rf_s _ | exact rf_n | exact rf_q _) (fun hb67 => ?_) (fun hb67 => ?_)
          · refine wa_aloadV (pc := 85) (y := mJ26_putTreeVal) dJ26_putTreeVal_85 rfl (by first | exact rf_s _ | exact rf_n | exact rf_q _) ?_
            refine wa_areturnV (pc := 87) (y := mJ26_putTreeVal) (.object "java/util/HashMap$TreeNode") dJ26_putTreeVal_87 rfl (Or.inl ⟨_, rfl⟩) (by first | exact rf_s _ | exact rf_n | exact rf_q _) (Or.inl ⟨p, hp, by omega, rfl, rfl⟩)
          · refine wa_aloadV (pc := 70) (y := mJ26_putTreeVal) dJ26_putTreeVal_70 rfl (by first | exact rf_s _ | exact rf_n | exact rf_q _) ?_
            refine wa_ifnull (pc := 72) (y := mJ26_putTreeVal) dJ26_putTreeVal_72 ?_
            refine wa_aloadV (pc := 75) (y := mJ26_putTreeVal) dJ26_putTreeVal_75 rfl (by first | exact rf_s _ | exact rf_n | exact rf_q _) ?_
            refine wa_aloadV (pc := 77) (y := mJ26_putTreeVal) dJ26_putTreeVal_77 rfl (by first | exact rf_s _ | exact rf_n | exact rf_q _) ?_
            refine wa_callW (k := 4) (pc := 79) (owner := "java/lang/Object") (s_X5_equals (d := d - 1) K fK) dJ26_putTreeVal_79 okX5_equals rfl q892 q846 (hDc_code q845 q878) (by decide) q853 q854 (sF_at (by assumption)) rfl rfl rfl rfl (Nat.le_of_ble_eq_true rfl) (Nat.le_of_ble_eq_true rfl) (by omega) ?_
            rintro _ _ - - ⟨rfl, rfl⟩
            refine aft_v (pc2 := 82) ?_ rfl
            refine wa_if_eq (pc := 82) 88 dJ26_putTreeVal_82 rfl (fun hb82 => absurd (bI_0.mp hb82) (by simp; omega)) (fun hb82 => ?_)
            refine wa_aloadV (pc := 85) (y := mJ26_putTreeVal) dJ26_putTreeVal_85 rfl (by first | exact rf_s _ | exact rf_n | exact rf_q _) ?_
            refine wa_areturnV (pc := 87) (y := mJ26_putTreeVal) (.object "java/util/HashMap$TreeNode") dJ26_putTreeVal_87 rfl (Or.inl ⟨_, rfl⟩) (by first | exact rf_s _ | exact rf_n | exact rf_q _) (Or.inl ⟨p, hp, by omega, rfl, rfl⟩)
        · have hb1 : κ p < x0 := Nat.lt_of_not_le fun q => hb48 ((iN_le (by omega) (by omega)).mpr q)
          refine wa_iconst (pc := 51) (y := mJ26_putTreeVal) (Int32.ofNat 1) dJ26_putTreeVal_51 rfl ?_
          refine wa_istore (pc := 52) (y := mJ26_putTreeVal) dJ26_putTreeVal_52 (Nat.le_of_ble_eq_true rfl) (by first | rfl | (simp [okst, rf_cat] <;> assumption)) ?_
          simp only [List.set_cons_zero, List.set_cons_succ]
          refine wa_goto (pc := 54) (y := mJ26_putTreeVal) 193 dJ26_putTreeVal_54 rfl ?_
          refine wa_aloadV (pc := 193) (y := mJ26_putTreeVal) dJ26_putTreeVal_193 rfl (by first | exact rf_s _ | exact rf_n | exact rf_q _) ?_
          refine wa_astoreV (pc := 195) (y := mJ26_putTreeVal) dJ26_putTreeVal_195 (Nat.le_of_ble_eq_true rfl) (by first | rfl | (simp [okst, rf_cat] <;> assumption)) (by first | exact rf_s _ | exact rf_n | exact rf_q _) ?_
          simp only [List.set_cons_zero, List.set_cons_succ]
          refine wa_iload (pc := 197) (y := mJ26_putTreeVal) dJ26_putTreeVal_197 rfl ?_
          refine wa_if_gt (pc := 199) 210 dJ26_putTreeVal_199 rfl (fun hb199 => ?_) (fun hb199 => absurd hb199 (by decide))
          clear hb199
          refine wa_aloadV (pc := 210) (y := mJ26_putTreeVal) dJ26_putTreeVal_210 rfl (by first | exact rf_s _ | exact rf_n | exact rf_q _) ?_
          refine wf_get (k := 14) (l := 11) 8 dJ26_putTreeVal_212 (by assumption) rfl q1616 (Or.inl rfl) (Nat.le_of_ble_eq_true rfl) (Nat.le_of_ble_eq_true rfl) (by (repeat (first | exact updF_self _ _ _ _ | (apply updF_i; · decide) | (apply updF_a; · first | assumption | (apply Ne.symm; assumption) | omega) | (apply newF_a; · first | assumption | (apply Ne.symm; assumption) | omega) | exact newL_self (by rfl) | exact newF_self (by rfl) | (apply cpyF_a; · first | assumption | (apply Ne.symm; assumption) | omega))) <;> first | assumption | rfl) ?_
          refine wa_dup (pc := 215) (y := mJ26_putTreeVal) dJ26_putTreeVal_215 (by first | rfl | exact rf_cat _) ?_
          refine wa_astoreV (pc := 216) (y := mJ26_putTreeVal) dJ26_putTreeVal_216 (Nat.le_of_ble_eq_true rfl) (by first | rfl | (simp [okst, rf_cat] <;> assumption)) (by first | exact rf_s _ | exact rf_n | exact rf_q _) ?_
          simp only [List.set_cons_zero, List.set_cons_succ]
          refine wa_ifnonnullV (pc := 218) 311 dJ26_putTreeVal_218 rfl (by first | exact rf_s _ | exact rf_n | exact rf_q _) (fun a218 hb218 => ?_) (fun hb218 => ?_)
          · rw [hb218]
            refine wa_goto (pc := 311) (y := mJ26_putTreeVal) 27 dJ26_putTreeVal_311 rfl ?_
            first | (have hc := tp.2.2.1 _ hb218; have hc2 := t.2 _ hc.1; exact ih _ _ _ _ _ _ _ rfl rfl c12 rfl hc.1 (by omega) (by omega) (by omega)) | (have hc := tp.2.2.2.1 _ hb218; have hc2 := t.2 _ hc.1; exact ih _ _ _ _ _ _ _ rfl rfl c12 rfl hc.1 (by omega) (by omega) (by omega))
          · rw [hb218]
            have hno : ∀ q, q ∈ B → κ q ≠ x0 := fun q hq e => by rcases down q hq e with rfl | ⟨e1, c, e2⟩ | ⟨e1, c, e2⟩ <;> first | omega | (rw [hb218] at e2; cases e2)
            first | exact WA.mono (ptv_221L hd hG hm h11 lo hnn hN ht hk hBn hsub hI nk hmod hs dl hx hx0 t tl hp hb218 l1 hb1) (fun r h' _ _ q => Or.inr ⟨hno, q⟩) | exact WA.mono (ptv_221R hd hG hm h11 lo hnn hN ht hk hBn hsub hI nk hmod hs dl hx hx0 t tl hp hb218 hb1 l2) (fun r h' _ _ q => Or.inr ⟨hno, q⟩)
      · have hb1 : x0 < κ p := Nat.lt_of_not_le fun q => hb36 ((iN_le (by omega) (by omega)).mpr q)
        refine wa_iconst (pc := 39) (y := mJ26_putTreeVal) (-1) dJ26_putTreeVal_39 rfl ?_
        refine wa_istore (pc := 40) (y := mJ26_putTreeVal) dJ26_putTreeVal_40 (Nat.le_of_ble_eq_true rfl) (by first | rfl | (simp [okst, rf_cat] <;> assumption)) ?_
        simp only [List.set_cons_zero, List.set_cons_succ]
        refine wa_goto (pc := 42) (y := mJ26_putTreeVal) 193 dJ26_putTreeVal_42 rfl ?_
        refine wa_aloadV (pc := 193) (y := mJ26_putTreeVal) dJ26_putTreeVal_193 rfl (by first | exact rf_s _ | exact rf_n | exact rf_q _) ?_
        refine wa_astoreV (pc := 195) (y := mJ26_putTreeVal) dJ26_putTreeVal_195 (Nat.le_of_ble_eq_true rfl) (by first | rfl | (simp [okst, rf_cat] <;> assumption)) (by first | exact rf_s _ | exact rf_n | exact rf_q _) ?_
        simp only [List.set_cons_zero, List.set_cons_succ]
        refine wa_iload (pc := 197) (y := mJ26_putTreeVal) dJ26_putTreeVal_197 rfl ?_
        refine wa_if_gt (pc := 199) 210 dJ26_putTreeVal_199 rfl (fun hb199 => absurd hb199 (by decide)) (fun hb199 => ?_)
        clear hb199
        refine wa_aloadV (pc := 202) (y := mJ26_putTreeVal) dJ26_putTreeVal_202 rfl (by first | exact rf_s _ | exact rf_n | exact rf_q _) ?_
        refine wf_get (k := 14) (l := 11) 7 dJ26_putTreeVal_204 (by assumption) rfl q1615 (Or.inl rfl) (Nat.le_of_ble_eq_true rfl) (Nat.le_of_ble_eq_true rfl) (by (repeat (first | exact updF_self _ _ _ _ | (apply updF_i; · decide) | (apply updF_a; · first | assumption | (apply Ne.symm; assumption) | omega) | (apply newF_a; · first | assumption | (apply Ne.symm; assumption) | omega) | exact newL_self (by rfl) | exact newF_self (by rfl) | (apply cpyF_a; · first | assumption | (apply Ne.symm; assumption) | omega))) <;> first | assumption | rfl) ?_
        refine wa_goto (pc := 207) (y := mJ26_putTreeVal) 215 dJ26_putTreeVal_207 rfl ?_
        refine wa_dup (pc := 215) (y := mJ26_putTreeVal) dJ26_putTreeVal_215 (by first | rfl | exact rf_cat _) ?_
        refine wa_astoreV (pc := 216) (y := mJ26_putTreeVal) dJ26_putTreeVal_216 (Nat.le_of_ble_eq_true rfl) (by first | rfl | (simp [okst, rf_cat] <;> assumption)) (by first | exact rf_s _ | exact rf_n | exact rf_q _) ?_
        simp only [List.set_cons_zero, List.set_cons_succ]
        refine wa_ifnonnullV (pc := 218) 311 dJ26_putTreeVal_218 rfl (by first | exact rf_s _ | exact rf_n | exact rf_q _) (fun a218 hb218 => ?_) (fun hb218 => ?_)
        · rw [hb218]
          refine wa_goto (pc := 311) (y := mJ26_putTreeVal) 27 dJ26_putTreeVal_311 rfl ?_
          first | (have hc := tp.2.2.1 _ hb218; have hc2 := t.2 _ hc.1; exact ih _ _ _ _ _ _ _ rfl rfl c12 rfl hc.1 (by omega) (by omega) (by omega)) | (have hc := tp.2.2.2.1 _ hb218; have hc2 := t.2 _ hc.1; exact ih _ _ _ _ _ _ _ rfl rfl c12 rfl hc.1 (by omega) (by omega) (by omega))
        · rw [hb218]
          have hno : ∀ q, q ∈ B → κ q ≠ x0 := fun q hq e => by rcases down q hq e with rfl | ⟨e1, c, e2⟩ | ⟨e1, c, e2⟩ <;> first | omega | (rw [hb218] at e2; cases e2)
          first | exact WA.mono (ptv_221L hd hG hm h11 lo hnn hN ht hk hBn hsub hI nk hmod hs dl hx hx0 t tl hp hb218 l1 hb1) (fun r h' _ _ q => Or.inr ⟨hno, q⟩) | exact WA.mono (ptv_221R hd hG hm h11 lo hnn hN ht hk hBn hsub hI nk hmod hs dl hx hx0 t tl hp hb218 hb1 l2) (fun r h' _ _ q => Or.inr ⟨hno, q⟩)
  change WA G d mJ26_putTreeVal 0 [.ref p0, .ref m, .ref tb, .int (Int32.ofNat x0), .ref kk, .ref vv, .retAddr 0, .retAddr 0, .retAddr 0, .retAddr 0, .retAddr 0, .retAddr 0, .retAddr 0, .retAddr 0, .retAddr 0, .retAddr 0] [] _ _
  refine wa_null (pc := 0) (y := mJ26_putTreeVal) dJ26_putTreeVal_0 ?_
  refine wa_astoreV (pc := 1) (y := mJ26_putTreeVal) dJ26_putTreeVal_1 (Nat.le_of_ble_eq_true rfl) (by first | rfl | (simp [okst, rf_cat] <;> assumption)) (by first | exact rf_s _ | exact rf_n | exact rf_q _) ?_
  simp only [List.set_cons_zero, List.set_cons_succ]
  refine wa_iconst (pc := 3) (y := mJ26_putTreeVal) (Int32.ofNat 0) dJ26_putTreeVal_3 rfl ?_
  refine wa_istore (pc := 4) (y := mJ26_putTreeVal) dJ26_putTreeVal_4 (Nat.le_of_ble_eq_true rfl) (by first | rfl | (simp [okst, rf_cat] <;> assumption)) ?_
  simp only [List.set_cons_zero, List.set_cons_succ]
  refine wa_aloadV_n (pc := 6) (y := mJ26_putTreeVal) dJ26_putTreeVal_6 rfl (by first | exact rf_s _ | exact rf_n | exact rf_q _) ?_
  refine wf_get (k := 14) (l := 11) 6 dJ26_putTreeVal_7 (by assumption) rfl q1614 (Or.inl rfl) (Nat.le_of_ble_eq_true rfl) (Nat.le_of_ble_eq_true rfl) (by (repeat (first | exact updF_self _ _ _ _ | (apply updF_i; · decide) | (apply updF_a; · first | assumption | (apply Ne.symm; assumption) | omega) | (apply newF_a; · first | assumption | (apply Ne.symm; assumption) | omega) | exact newL_self (by rfl) | exact newF_self (by rfl) | (apply cpyF_a; · first | assumption | (apply Ne.symm; assumption) | omega))) <;> first | assumption | rfl) ?_
  refine wa_ifnullV (pc := 10) 20 dJ26_putTreeVal_10 rfl (by first | exact rf_s _ | exact rf_n | exact rf_q _) (fun hb10 => ?_) (fun a10 hb10 => ?_)
  · have hr9 := ((t.2 p0 hp0).2.1 hb10).1
    subst hr9
    refine wa_aloadV_n (pc := 20) (y := mJ26_putTreeVal) dJ26_putTreeVal_20 rfl (by first | exact rf_s _ | exact rf_n | exact rf_q _) ?_
    refine wa_astoreV (pc := 21) (y := mJ26_putTreeVal) dJ26_putTreeVal_21 (Nat.le_of_ble_eq_true rfl) (by first | rfl | (simp [okst, rf_cat] <;> assumption)) (by first | exact rf_s _ | exact rf_n | exact rf_q _) ?_
    simp only [List.set_cons_zero, List.set_cons_succ]
    refine wa_aloadV (pc := 23) (y := mJ26_putTreeVal) dJ26_putTreeVal_23 rfl (by first | exact rf_s _ | exact rf_n | exact rf_q _) ?_
    refine wa_astoreV (pc := 25) (y := mJ26_putTreeVal) dJ26_putTreeVal_25 (Nat.le_of_ble_eq_true rfl) (by first | rfl | (simp [okst, rf_cat] <;> assumption)) (by first | exact rf_s _ | exact rf_n | exact rf_q _) ?_
    simp only [List.set_cons_zero, List.set_cons_succ]
    exact loop _ _ _ _ _ _ _ _ rfl rfl rfl rfl t.1.1 (Nat.lt_succ_self _) (by omega) (by omega)
  · refine wa_aloadV_n (pc := 13) (y := mJ26_putTreeVal) dJ26_putTreeVal_13 rfl (by first | exact rf_s _ | exact rf_n | exact rf_q _) ?_
    refine wa_callV (pc := 14) (s_J26_root (d := d - 1) t tl hp0) dJ26_putTreeVal_14 okJ26_root q884 q885 q886 (sF_at (by assumption)) rfl rfl rfl (Nat.le_of_ble_eq_true rfl) (Nat.le_of_ble_eq_true rfl) (by omega) ?_
    rintro _ _ - - ⟨rfl, rfl⟩
    refine aft_v (pc2 := 17) ?_ rfl
    refine wa_goto (pc := 17) (y := mJ26_putTreeVal) 21 dJ26_putTreeVal_17 rfl ?_
    refine wa_astoreV (pc := 21) (y := mJ26_putTreeVal) dJ26_putTreeVal_21 (Nat.le_of_ble_eq_true rfl) (by first | rfl | (simp [okst, rf_cat] <;> assumption)) (by first | exact rf_s _ | exact rf_n | exact rf_q _) ?_
    simp only [List.set_cons_zero, List.set_cons_succ]
    refine wa_aloadV (pc := 23) (y := mJ26_putTreeVal) dJ26_putTreeVal_23 rfl (by first | exact rf_s _ | exact rf_n | exact rf_q _) ?_
    refine wa_astoreV (pc := 25) (y := mJ26_putTreeVal) dJ26_putTreeVal_25 (Nat.le_of_ble_eq_true rfl) (by first | rfl | (simp [okst, rf_cat] <;> assumption)) (by first | exact rf_s _ | exact rf_n | exact rf_q _) ?_
    simp only [List.set_cons_zero, List.set_cons_succ]
    exact loop _ _ _ _ _ _ _ _ rfl rfl rfl rfl t.1.1 (Nat.lt_succ_self _) (by omega) (by omega)
end PUTTREE
