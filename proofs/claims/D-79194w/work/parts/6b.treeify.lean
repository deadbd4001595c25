/-! ===== TreeNode: treeify ===== -/
/-- a bin as treeify and its like leave it: B's nodes, in some order -/
def TfQ (h : AH) (F : Nat → Nat → Value) (tb bi : Nat) (B : List Nat) (κ : Nat → Nat) (r : RR) (h' : AH) : Prop :=
  r = .inl none ∧ ∃ (F2 : Nat → Nat → Value) (B2 : List Nat), h' = sF h F2 ∧ (∀ p, p ∈ B2 ↔ p ∈ B) ∧ B2.Nodup ∧ F2 tb bi = va_rf B2.head? ∧ TBin h F2 B2 κ ∧ FrP (fun z j => z = tb ∧ j = bi ∨ z ∈ B ∧ (j = 3 ∨ j = 6 ∨ j = 7 ∨ j = 8 ∨ j = 9 ∨ j = 10)) F F2
section TREEIFY
variable {G : GG} {d n : Nat} {h h2 : AH} {F F2 F3 : Nat → Nat → Value} {S : Nat → Prop} {κ : Nat → Nat} {tb bi k p q x root : Nat} {B a b : List Nat}
theorem FrP.ofT {P : Nat → Nat → Prop} (f : TFr S F F2) (hp : ∀ z j, S z → (j = 6 ∨ j = 7 ∨ j = 8 ∨ j = 10) → P z j) : FrP P F F2 := fun b j h => f b j fun e => h (hp _ _ e.1 e.2)
theorem NK.congr (nk : NK h F p x) (h0 : F2 p 0 = F p 0) (h1 : F2 p 1 = F p 1) (hK : ∀ q j, Is h q 4 2 → F2 q j = F q j) : NK h F2 p x := by
  obtain ⟨e0, q, e1, k1, k2, k3, k4⟩ := nk
  exact ⟨h0.trans e0, q, h1.trans e1, k1, (hK q 0 k1).trans k2, (hK q 1 k1).trans k3, k4⟩
theorem TrB.mem (t : TrB h F S κ root x) : S root := by
  obtain ⟨L, R, P, C, lo, hi, rk, M, t1, t2⟩ := t
  exact t1.1.1
theorem TL.insL {L R P : Nat → Option Nat} {C : Nat → Bool} {c : Bool} (tl : TL h F S L R P C) (hx : ¬ S x) (hI : Is h x 14 11) (h6 : ∀ z, S z → F2 z 6 = F z 6) (h7 : ∀ z, S z → F2 z 7 = if z = p then .ref x else F z 7) (h8 : ∀ z, S z → F2 z 8 = F z 8) (h10 : ∀ z, S z → F2 z 10 = F z 10)
    (x6 : F2 x 6 = .ref p) (x7 : F2 x 7 = .null) (x8 : F2 x 8 = .null) (x10 : F2 x 10 = .int (bI c)) (hpx : p ≠ x) : TL h F2 (fun z => S z ∨ z = x) (upo (upo L x none) p (some x)) (upo R x none) (upo P x (some p)) (upo C x c) := fun z hz => by
  by_cases e : z = x
  · subst e
    exact ⟨hI, by rw [x6]; simp [upo, va_rf], by rw [x7]; simp [upo, va_rf, Ne.symm hpx], by rw [x8]; simp [upo, va_rf], by rw [x10]; simp [upo]⟩
  · have hz := hz.resolve_right e
    obtain ⟨z1, z2, z3, z4, z5⟩ := tl z hz
    refine ⟨z1, by rw [h6 z hz, z2]; simp [upo, e], ?_, by rw [h8 z hz, z4]; simp [upo, e], by rw [h10 z hz, z5]; simp [upo, e]⟩
    rw [h7 z hz]
    by_cases ep : z = p
    · simp [upo, ep, va_rf]
    · rw [if_neg ep, z3]
      simp [upo, ep, e]
theorem TL.insR {L R P : Nat → Option Nat} {C : Nat → Bool} {c : Bool} (tl : TL h F S L R P C) (hx : ¬ S x) (hI : Is h x 14 11) (h6 : ∀ z, S z → F2 z 6 = F z 6) (h7 : ∀ z, S z → F2 z 7 = F z 7) (h8 : ∀ z, S z → F2 z 8 = if z = p then .ref x else F z 8) (h10 : ∀ z, S z → F2 z 10 = F z 10)
    (x6 : F2 x 6 = .ref p) (x7 : F2 x 7 = .null) (x8 : F2 x 8 = .null) (x10 : F2 x 10 = .int (bI c)) (hpx : p ≠ x) : TL h F2 (fun z => S z ∨ z = x) (upo L x none) (upo (upo R x none) p (some x)) (upo P x (some p)) (upo C x c) := fun z hz => by
  by_cases e : z = x
  · subst e
    exact ⟨hI, by rw [x6]; simp [upo, va_rf], by rw [x7]; simp [upo, va_rf], by rw [x8]; simp [upo, va_rf, Ne.symm hpx], by rw [x10]; simp [upo]⟩
  · have hz := hz.resolve_right e
    obtain ⟨z1, z2, z3, z4, z5⟩ := tl z hz
    refine ⟨z1, by rw [h6 z hz, z2]; simp [upo, e], by rw [h7 z hz, z3]; simp [upo, e], ?_, by rw [h10 z hz, z5]; simp [upo, e]⟩
    rw [h8 z hz]
    by_cases ep : z = p
    · simp [upo, ep, va_rf]
    · rw [if_neg ep, z4]
      simp [upo, ep, e]
/-- the end of treeify and of an insertion: the root comes to the front -/
theorem tf_end (hG : StG G) {mF : Nat → Nat → Value} (ht : Is h tb 36 (2 ^ k)) (hk : k < 16) (hn : B.Nodup) (hI : ∀ p, p ∈ B → Is h p 14 11) (hh : F root 0 = .int (Int32.ofNat (κ root))) (hx : κ root < 1200) (hmod : κ root % 2 ^ k = bi) (hs : F tb bi = va_rf B.head?) (dl : DL F 3 9 B) (t : TrB h F (· ∈ B) κ root 1200) (fr : FrP (fun z j => z = tb ∧ j = bi ∨ z ∈ B ∧ (j = 3 ∨ j = 6 ∨ j = 7 ∨ j = 8 ∨ j = 9 ∨ j = 10)) mF F) :
    MA G d mJ26_moveRootToFront [.ref tb, .ref root] (sF h F) (TfQ h mF tb bi B κ) := by
  obtain ⟨a, b, hB⟩ := List.append_of_mem t.mem
  subst hmod
  refine (s_J26_moveRootToFront hG ht hk hx hh hB hn hI hs dl).mono fun r h' _ _ ⟨e1, F2, e2, e3, e4, e5⟩ => ⟨e1, F2, root :: (a ++ b), e2, ?_, ?_, e3, ⟨e4, root, ?_⟩, fr.trans (e5.mono fun z j hz => by rcases hz with hz | ⟨hz, hj⟩; exact Or.inl hz; exact Or.inr ⟨hz, by omega⟩)⟩
  · intro p
    rw [hB]
    simp
    grind
  · rw [hB] at hn
    grind [List.nodup_append]
  · have hiff : (fun z => z ∈ root :: (a ++ b)) = (fun z => z ∈ B) := by
      funext z
      rw [hB]
      simp
      grind
    rw [hiff]
    refine t.congr fun z j hz hj => e5 z j fun e => ?_
    rcases e with e | e
    · exact (hI z hz).ne ht (by decide) e.1
    · omega
theorem s_J26_treeify {hd0 : Nat} {tl0 : List Nat} (hd : 3 ≤ d) (hG : StG G) (ht : Is h tb 36 (2 ^ k)) (hk : k < 16) (hB : B = hd0 :: tl0) (hn : B.Nodup) (hI : ∀ p, p ∈ B → Is h p 14 11) (nk : ∀ p, p ∈ B → NK h F p (κ p)) (hmod : ∀ p, p ∈ B → κ p % 2 ^ k = bi) (hinj : ∀ p q, p ∈ B → q ∈ B → κ p = κ q → p = q) (hs : F tb bi = va_rf B.head?) (dl : DL F 3 9 B) (hred : ∀ p, p ∈ B → ∃ c, F p 10 = .int (bI c)) :
    MA G d mJ26_treeify [.ref hd0, .ref tb] (sF h F) (TfQ h F tb bi B κ) := by
  have hκ : ∀ p, p ∈ B → κ p < 1200 := fun p hp => by obtain ⟨-, q, -, -, -, -, h⟩ := nk p hp; exact h
  have hnt : ∀ z, z ∈ B → z ≠ tb := fun z hz => (hI z hz).ne ht (by decide)
  have outer : ∀ (rest a : List Nat) (F1 : Nat → Nat → Value) (ro : Option Nat) (v4 v5 v6 v8 v9 v10 v11 v12 : Value), v9.category = 1 → v10.category = 1 → v11.category = 1 → a ++ rest = B → FrP (fun z j => z ∈ a ∧ (j = 6 ∨ j = 7 ∨ j = 8 ∨ j = 10)) F F1 → (a = [] ∧ ro = none ∨ ∃ root, ro = some root ∧ TrB h F1 (· ∈ a) κ root 1200) →
      ∀ v7, WA G d mJ26_treeify 4 [.ref hd0, .ref tb, va_rf ro, va_rf rest.head?, v4, v5, v6, v7, v8, v9, v10, v11, v12] [] (sF h F1) (TfQ h F tb bi B κ) := by
    intro rest
    induction rest with
    | nil =>
      intro a F1 ro v4 v5 v6 v8 v9 v10 v11 v12 c9 c10 c11 ha fr hr v7
      rw [List.append_nil] at ha
      obtain ⟨rfl, -⟩ | ⟨root, rfl, t⟩ := hr
      · rw [hB] at ha; cases ha
      · subst ha
        have hrB := t.mem
        have hr0 : F1 root 0 = .int (Int32.ofNat (κ root)) := (fr root 0 fun e => by omega).trans (nk root hrB).1
        have hs1 : F1 tb bi = va_rf a.head? := (fr tb bi fun e => hnt tb e.1 rfl).trans hs
        have dl1 : DL F1 3 9 a := ⟨ChE_congr (fun z hz => fr z 3 fun e => by omega) dl.1, PvE_congr (fun z hz => fr z 9 fun e => by omega) dl.2⟩
        refine wa_aloadV_n (pc := 4) (y := mJ26_treeify) dJ26_treeify_4 rfl (by first | exact rf_s _ | exact rf_n | exact rf_q _) ?_
        refine wa_ifnullN (pc := 5) (y := mJ26_treeify) 215 dJ26_treeify_5 rfl ?_
        refine wa_aloadV_n (pc := 215) (y := mJ26_treeify) dJ26_treeify_215 rfl (by first | exact rf_s _ | exact rf_n | exact rf_q _) ?_
        refine wa_aloadV_n (pc := 216) (y := mJ26_treeify) dJ26_treeify_216 rfl (by first | exact rf_s _ | exact rf_n | exact rf_q _) ?_
        refine wa_callS (pc := 217) (tf_end (d := d - 1) (mF := F) hG ht hk hn hI hr0 (hκ root hrB) (hmod root hrB) hs1 dl1 t (fr.mono fun z j hz => Or.inr ⟨hz.1, by omega⟩)) dJ26_treeify_217 okJ26_moveRootToFront q1370 q1371 rfl rfl (Nat.le_of_ble_eq_true rfl) (Nat.le_of_ble_eq_true rfl) (by omega) ?_
        rintro _ _ - - ⟨rfl, F2, B2, rfl, q⟩
        refine aft_0 (pc2 := 220) ?_ rfl
        refine wa_return (pc := 220) (y := mJ26_treeify) dJ26_treeify_220 rfl ⟨rfl, F2, B2, rfl, q⟩
    | cons x rest ih =>
      intro a F1 ro v4 v5 v6 v8 v9 v10 v11 v12 c9 c10 c11 ha fr hr v7
      have hxB : x ∈ B := by rw [← ha]; simp
      have hxI := hI x hxB
      obtain ⟨e0, kq, e1, hK⟩ := nk x hxB
      have g0 : F1 x 0 = .int (Int32.ofNat (κ x)) := (fr x 0 fun e => by omega).trans e0
      have g1 : F1 x 1 = .ref kq := (fr x 1 fun e => by omega).trans e1
      have dlx : F x 3 = va_rf rest.head? := by rw [← ha] at dl; exact dl.fwd
      have g3 : F1 x 3 = va_rf rest.head? := (fr x 3 fun e => by omega).trans dlx
      have hxa : x ∉ a := by rw [← ha] at hn; grind [List.nodup_append]
      have haB : ∀ z, z ∈ a → z ∈ B := fun z hz => by rw [← ha]; simp [hz]
      have hrN : ∀ z, rest.head? = some z → Is h z 14 11 := fun z hz => hI z (by rw [← ha]; simp [head_mem hz])
      have ha2 : (a ++ [x]) ++ rest = B := by rw [← ha]; simp
      have hP : ∀ j, (j = 6 ∨ j = 7 ∨ j = 8 ∨ j = 10) → x ∈ a ++ [x] ∧ (j = 6 ∨ j = 7 ∨ j = 8 ∨ j = 10) := fun j hj => ⟨by simp, hj⟩
      have fr9 : FrP (fun z j => z ∈ a ++ [x] ∧ (j = 6 ∨ j = 7 ∨ j = 8 ∨ j = 10)) F F1 := fr.mono fun z j hz => ⟨by simp [hz.1], hz.2⟩
      have frx := (fr9.upd (v := .null) (hP 8 (by decide))).upd (v := .null) (hP 7 (by decide))
      obtain ⟨rfl, rfl⟩ | ⟨root, rfl, t⟩ := hr
      · have t1 : TrB h (updF (updF (updF (updF F1 x 8 .null) x 7 .null) x 6 .null) x 10 (.int 0)) (· ∈ ([] ++ [x] : List Nat)) κ x 1200 := by
          refine ⟨_, _, _, fun _ => false, _, _, _, _, (T0.one x (hκ x hxB)).congrS (fun z => by simp), fun p hp => ?_⟩
          simp at hp
          subst hp
          exact ⟨hxI, updF_i (by decide) (updF_self _ _ _ _), updF_i (by decide) (updF_i (by decide) (updF_self _ _ _ _)), updF_i (by decide) (updF_i (by decide) (updF_i (by decide) (updF_self _ _ _ _))), updF_self _ _ _ _⟩
        refine wa_aloadV_n (pc := 4) (y := mJ26_treeify) dJ26_treeify_4 rfl (by first | exact rf_s _ | exact rf_n | exact rf_q _) ?_
        refine wa_ifnull (pc := 5) (y := mJ26_treeify) dJ26_treeify_5 ?_
        refine wa_aloadV_n (pc := 8) (y := mJ26_treeify) dJ26_treeify_8 rfl (by first | exact rf_s _ | exact rf_n | exact rf_q _) ?_
        refine wf_get (k := 14) (l := 11) 3 dJ26_treeify_9 (by assumption) rfl q1334 (Or.inr q1335) (Nat.le_of_ble_eq_true rfl) (Nat.le_of_ble_eq_true rfl) (by (repeat (first | exact updF_self _ _ _ _ | (apply updF_i; · decide) | (apply updF_a; · first | assumption | (apply Ne.symm; assumption) | omega) | (apply newF_a; · first | assumption | (apply Ne.symm; assumption) | omega) | exact newL_self (by rfl) | exact newF_self (by rfl) | (apply cpyF_a; · first | assumption | (apply Ne.symm; assumption) | omega))) <;> first | assumption | rfl) ?_
        refine wn_castq dJ26_treeify_12 (by first | exact rf_s _ | exact rf_n | exact rf_q _) hrN q1290 ?_
        refine wa_astoreV (pc := 15) (y := mJ26_treeify) dJ26_treeify_15 (Nat.le_of_ble_eq_true rfl) (by first | rfl | (simp [okst, rf_cat] <;> assumption)) (by first | exact rf_s _ | exact rf_n | exact rf_q _) ?_
        simp only [List.set_cons_zero, List.set_cons_succ]
        refine wa_aloadV_n (pc := 17) (y := mJ26_treeify) dJ26_treeify_17 rfl (by first | exact rf_s _ | exact rf_n | exact rf_q _) ?_
        refine wa_aloadV_n (pc := 18) (y := mJ26_treeify) dJ26_treeify_18 rfl (by first | exact rf_s _ | exact rf_n | exact rf_q _) ?_
        refine wa_null (pc := 19) (y := mJ26_treeify) dJ26_treeify_19 ?_
        refine wa_dup_x1 (pc := 20) (y := mJ26_treeify) dJ26_treeify_20 (by first | rfl | exact rf_cat _) (by first | rfl | exact rf_cat _) ?_
        refine wf_put (k := 14) (l := 11) 8 (.object "java/util/HashMap$TreeNode") dJ26_treeify_21 (by assumption) rfl q1616 (Or.inl rfl) (Nat.le_of_ble_eq_true rfl) rfl (by decide +kernel) (by first | rfl | exact rf_nar _ | exact rf_nar2 _) (by first | rfl | exact rf_fit _ | exact rf_fit2 _) ?_
        refine wf_put (k := 14) (l := 11) 7 (.object "java/util/HashMap$TreeNode") dJ26_treeify_24 (by assumption) rfl q1615 (Or.inl rfl) (Nat.le_of_ble_eq_true rfl) rfl (by decide +kernel) (by first | rfl | exact rf_nar _ | exact rf_nar2 _) (by first | rfl | exact rf_fit _ | exact rf_fit2 _) ?_
        refine wa_aloadV_n (pc := 27) (y := mJ26_treeify) dJ26_treeify_27 rfl (by first | exact rf_s _ | exact rf_n | exact rf_q _) ?_
        refine wa_ifnonnullN (pc := 28) (y := mJ26_treeify) dJ26_treeify_28 ?_
        refine wa_aloadV_n (pc := 31) (y := mJ26_treeify) dJ26_treeify_31 rfl (by first | exact rf_s _ | exact rf_n | exact rf_q _) ?_
        refine wa_null (pc := 32) (y := mJ26_treeify) dJ26_treeify_32 ?_
        refine wf_put (k := 14) (l := 11) 6 (.object "java/util/HashMap$TreeNode") dJ26_treeify_33 (by assumption) rfl q1614 (Or.inl rfl) (Nat.le_of_ble_eq_true rfl) rfl (by decide +kernel) (by first | rfl | exact rf_nar _ | exact rf_nar2 _) (by first | rfl | exact rf_fit _ | exact rf_fit2 _) ?_
        refine wa_aloadV_n (pc := 36) (y := mJ26_treeify) dJ26_treeify_36 rfl (by first | exact rf_s _ | exact rf_n | exact rf_q _) ?_
        refine wa_iconst (pc := 37) (y := mJ26_treeify) (Int32.ofNat 0) dJ26_treeify_37 rfl ?_
        refine wf_put (k := 14) (l := 11) 10 .boolean dJ26_treeify_38 (by assumption) rfl q1619 (Or.inl rfl) (Nat.le_of_ble_eq_true rfl) rfl (by decide +kernel) (by first | rfl | exact bI_nar _) (by first | rfl | exact bI_fit _) ?_
        refine wa_aloadV_n (pc := 41) (y := mJ26_treeify) dJ26_treeify_41 rfl (by first | exact rf_s _ | exact rf_n | exact rf_q _) ?_
        refine wa_astoreV_n (pc := 42) (y := mJ26_treeify) dJ26_treeify_42 (Nat.le_of_ble_eq_true rfl) (by first | rfl | (simp [okst, rf_cat] <;> assumption)) (by first | exact rf_s _ | exact rf_n | exact rf_q _) ?_
        change WA _ _ _ _ (List.set _ 2 _) _ _ _
        simp only [List.set_cons_zero, List.set_cons_succ]
        refine wa_goto (pc := 43) (y := mJ26_treeify) 209 dJ26_treeify_43 rfl ?_
        refine wa_aloadV (pc := 209) (y := mJ26_treeify) dJ26_treeify_209 rfl (by first | exact rf_s _ | exact rf_n | exact rf_q _) ?_
        refine wa_astoreV_n (pc := 211) (y := mJ26_treeify) dJ26_treeify_211 (Nat.le_of_ble_eq_true rfl) (by first | rfl | (simp [okst, rf_cat] <;> assumption)) (by first | exact rf_s _ | exact rf_n | exact rf_q _) ?_
        change WA _ _ _ _ (List.set _ 3 _) _ _ _
        simp only [List.set_cons_zero, List.set_cons_succ]
        refine wa_goto (pc := 212) (y := mJ26_treeify) 4 dJ26_treeify_212 rfl ?_
        exact ih _ _ _ _ _ _ _ _ _ _ _ c9 c10 c11 ha2 ((frx.upd (hP 6 (by decide))).upd (hP 10 (by decide))) (Or.inr ⟨x, rfl, t1⟩) v7
      · obtain ⟨L, R, P, C, lo, hi, rk, M, t0, tl0⟩ := t
        obtain ⟨cx, hcx⟩ := hred x hxB
        have gx10 : F1 x 10 = .int (bI cx) := (fr x 10 fun e => hxa e.1).trans hcx
        have hza : ∀ z, z ∈ a → z ≠ x := fun z hz e => hxa (e ▸ hz)
        have tl3 : TL h (updF (updF F1 x 8 .null) x 7 .null) (· ∈ a) L R P C := tl0.congr fun z j hz _ => updF_a (hza z hz) (updF_a (hza z hz) rfl)
        have frz : ∀ z j, z ∈ B → j < 6 → updF (updF F1 x 8 .null) x 7 .null z j = F z j := fun z j hz hj => frx z j fun e => by omega
        have inner : ∀ (n p : Nat) (v9 v10 v11 v12 : Value), v9.category = 1 → v10.category = 1 → v11.category = 1 → p ∈ a → M - rk p < n → lo p ≤ κ x → κ x < hi p →
            WA G d mJ26_treeify 64 [.ref hd0, .ref tb, .ref root, .ref x, va_rf rest.head?, .ref kq, .int (Int32.ofNat (κ x)), .null, .ref p, v9, v10, v11, v12] [] (sF h (updF (updF F1 x 8 .null) x 7 .null)) (TfQ h F tb bi B κ) := by
          intro n
          induction n with
          | zero => exact fun p v9 v10 v11 v12 c9 c10 c11 hp hn => absurd hn (Nat.not_lt_zero _)
          | succ n ih2 =>
            intro p v9 v10 v11 v12 c9 c10 c11 hp hn l1 l2
            have hpB := haB p hp
            have tp := t0.2 p hp
            obtain ⟨p1, p2, p3, p4, p5⟩ := tl0 p hp
            obtain ⟨f0, kp, f1, fK⟩ := nk p hpB
            have f0 := (fr p 0 fun e => by omega).trans f0
            have f1 := (fr p 1 fun e => by omega).trans f1
            have hpx := hza p hp
            have hκx := hκ x hxB
            have hκp := hκ p hpB
            have hne : κ p ≠ κ x := fun e => hpx (hinj p x hpB hxB e)
            have fin : ∀ (lt : Bool) (F4 : Nat → Nat → Value) (L4 R4 P4 : Nat → Option Nat) (lo4 hi4 rk4 : Nat → Nat) (v8 v9 v10 v11 v12 : Value), v9.category = 1 → v10.category = 1 → v11.category = 1 → T0 (fun z => z ∈ a ∨ z = x) κ root L4 R4 P4 lo4 hi4 rk4 1200 (M + 1) → TL h F4 (fun z => z ∈ a ∨ z = x) L4 R4 P4 (upo C x cx) → FrP (fun z j => z ∈ a ++ [x] ∧ (j = 6 ∨ j = 7 ∨ j = 8 ∨ j = 10)) F F4 →
                WA G d mJ26_treeify 197 [.ref hd0, .ref tb, .ref root, .ref x, va_rf rest.head?, .ref kq, .int (Int32.ofNat (κ x)), .null, v8, v9, v10, v11, v12] [] (sF h F4) (TfQ h F tb bi B κ) := by
              intro lt F4 L4 R4 P4 lo4 hi4 rk4 v8 v9 v10 v11 v12 c9 c10 c11 t4 tl4 fr4
              refine wa_aloadV_n (pc := 197) (y := mJ26_treeify) dJ26_treeify_197 rfl (by first | exact rf_s _ | exact rf_n | exact rf_q _) ?_
              refine wa_aloadV_n (pc := 198) (y := mJ26_treeify) dJ26_treeify_198 rfl (by first | exact rf_s _ | exact rf_n | exact rf_q _) ?_
              refine wa_callS (pc := 199) (s_J26_balanceInsertion (d := d - 1) (by omega) t4 tl4 (Or.inr rfl)) dJ26_treeify_199 okJ26_balanceInsertion q1361 q1362 rfl rfl (Nat.le_of_ble_eq_true rfl) (Nat.le_of_ble_eq_true rfl) (by omega) ?_
              rintro _ _ - - ⟨root2, F5, rfl, rfl, f5, t5⟩
              refine aft_v (pc2 := 202) ?_ rfl
              refine wa_astoreV_n (pc := 202) (y := mJ26_treeify) dJ26_treeify_202 (Nat.le_of_ble_eq_true rfl) (by first | rfl | (simp [okst, rf_cat] <;> assumption)) (by first | exact rf_s _ | exact rf_n | exact rf_q _) ?_
              change WA _ _ _ _ (List.set _ 2 _) _ _ _
              simp only [List.set_cons_zero, List.set_cons_succ]
              refine wa_goto (pc := 203) (y := mJ26_treeify) 209 dJ26_treeify_203 rfl ?_
              refine wa_aloadV (pc := 209) (y := mJ26_treeify) dJ26_treeify_209 rfl (by first | exact rf_s _ | exact rf_n | exact rf_q _) ?_
              refine wa_astoreV_n (pc := 211) (y := mJ26_treeify) dJ26_treeify_211 (Nat.le_of_ble_eq_true rfl) (by first | rfl | (simp [okst, rf_cat] <;> assumption)) (by first | exact rf_s _ | exact rf_n | exact rf_q _) ?_
              change WA _ _ _ _ (List.set _ 3 _) _ _ _
              simp only [List.set_cons_zero, List.set_cons_succ]
              refine wa_goto (pc := 212) (y := mJ26_treeify) 4 dJ26_treeify_212 rfl ?_
              refine ih _ _ (some root2) _ _ _ _ _ _ _ _ c9 c10 c11 ha2 (fr4.trans (FrP.ofT f5 fun z j hz hj => ⟨by simpa using hz, hj⟩)) (Or.inr ⟨root2, rfl, ?_⟩) .null
              have hiff : (fun z => z ∈ a ++ [x]) = (fun z => z ∈ a ∨ z = x) := by funext z; simp
              rw [hiff]
              exact t5
            refine wa_aloadV (pc := 64) (y := mJ26_treeify) dJ26_treeify_64 rfl (by first | exact rf_s _ | exact rf_n | exact rf_q _) ?_
            refine wf_get (k := 14) (l := 11) 1 dJ26_treeify_66 (by assumption) rfl q1321 (Or.inr q1322) (Nat.le_of_ble_eq_true rfl) (Nat.le_of_ble_eq_true rfl) (by (repeat (first | exact updF_self _ _ _ _ | (apply updF_i; · decide) | (apply updF_a; · first | assumption | (apply Ne.symm; assumption) | omega) | (apply newF_a; · first | assumption | (apply Ne.symm; assumption) | omega) | exact newL_self (by rfl) | exact newF_self (by rfl) | (apply cpyF_a; · first | assumption | (apply Ne.symm; assumption) | omega))) <;> first | assumption | rfl) ?_
            refine wa_astoreV (pc := 69) (y := mJ26_treeify) dJ26_treeify_69 (Nat.le_of_ble_eq_true rfl) (by first | rfl | (simp [okst, rf_cat] <;> assumption)) (by first | exact rf_s _ | exact rf_n | exact rf_q _) ?_
            simp only [List.set_cons_zero, List.set_cons_succ]
            refine wa_aloadV (pc := 71) (y := mJ26_treeify) dJ26_treeify_71 rfl (by first | exact rf_s _ | exact rf_n | exact rf_q _) ?_
            refine wf_get (k := 14) (l := 11) 0 dJ26_treeify_73 (by assumption) rfl q1314 (Or.inr q1315) (Nat.le_of_ble_eq_true rfl) (Nat.le_of_ble_eq_true rfl) (by (repeat (first | exact updF_self _ _ _ _ | (apply updF_i; · decide) | (apply updF_a; · first | assumption | (apply Ne.symm; assumption) | omega) | (apply newF_a; · first | assumption | (apply Ne.symm; assumption) | omega) | exact newL_self (by rfl) | exact newF_self (by rfl) | (apply cpyF_a; · first | assumption | (apply Ne.symm; assumption) | omega))) <;> first | assumption | rfl) ?_
            refine wa_dup (pc := 76) (y := mJ26_treeify) dJ26_treeify_76 (by first | rfl | exact rf_cat _) ?_
            refine wa_istore (pc := 77) (y := mJ26_treeify) dJ26_treeify_77 (Nat.le_of_ble_eq_true rfl) (by first | rfl | (simp [okst, rf_cat] <;> assumption)) ?_
            simp only [List.set_cons_zero, List.set_cons_succ]
            refine wa_iload (pc := 79) (y := mJ26_treeify) dJ26_treeify_79 rfl ?_
            refine wa_icmp_le (pc := 81) 90 dJ26_treeify_81 rfl (fun hb81 => ?_) (fun hb81 => ?_)
            · have hb1 := (iN_le (by omega) (by omega)).mp hb81
              refine wa_iload (pc := 90) (y := mJ26_treeify) dJ26_treeify_90 rfl ?_
              refine wa_iload (pc := 92) (y := mJ26_treeify) dJ26_treeify_92 rfl ?_
              refine wa_icmp_ge (pc := 94) 103 dJ26_treeify_94 rfl (fun hb94 => absurd ((iN_le (by omega) (by omega)).mp hb94) (by omega)) (fun hb94 => ?_)
              refine wa_iconst (pc := 97) (y := mJ26_treeify) (Int32.ofNat 1) dJ26_treeify_97 rfl ?_
              refine wa_istore (pc := 98) (y := mJ26_treeify) dJ26_treeify_98 (Nat.le_of_ble_eq_true rfl) (by first | rfl | (simp [okst, rf_cat] <;> assumption)) ?_
              simp only [List.set_cons_zero, List.set_cons_succ]
              refine wa_goto (pc := 100) (y := mJ26_treeify) 143 dJ26_treeify_100 rfl ?_
              refine wa_aloadV (pc := 143) (y := mJ26_treeify) dJ26_treeify_143 rfl (by first | exact rf_s _ | exact rf_n | exact rf_q _) ?_
              refine wa_astoreV (pc := 145) (y := mJ26_treeify) dJ26_treeify_145 (Nat.le_of_ble_eq_true rfl) (by first | rfl | (simp [okst, rf_cat] <;> assumption)) (by first | exact rf_s _ | exact rf_n | exact rf_q _) ?_
              simp only [List.set_cons_zero, List.set_cons_succ]
              refine wa_iload (pc := 147) (y := mJ26_treeify) dJ26_treeify_147 rfl ?_
              refine wa_if_gt (pc := 149) 160 dJ26_treeify_149 rfl (fun hb149 => ?_) (fun hb149 => absurd hb149 (by decide))
              clear hb149
              refine wa_aloadV (pc := 160) (y := mJ26_treeify) dJ26_treeify_160 rfl (by first | exact rf_s _ | exact rf_n | exact rf_q _) ?_
              refine wf_get (k := 14) (l := 11) 8 dJ26_treeify_162 (by assumption) rfl q1616 (Or.inl rfl) (Nat.le_of_ble_eq_true rfl) (Nat.le_of_ble_eq_true rfl) (by (repeat (first | exact updF_self _ _ _ _ | (apply updF_i; · decide) | (apply updF_a; · first | assumption | (apply Ne.symm; assumption) | omega) | (apply newF_a; · first | assumption | (apply Ne.symm; assumption) | omega) | exact newL_self (by rfl) | exact newF_self (by rfl) | (apply cpyF_a; · first | assumption | (apply Ne.symm; assumption) | omega))) <;> first | assumption | rfl) ?_
              refine wa_dup (pc := 165) (y := mJ26_treeify) dJ26_treeify_165 (by first | rfl | exact rf_cat _) ?_
              refine wa_astoreV (pc := 166) (y := mJ26_treeify) dJ26_treeify_166 (Nat.le_of_ble_eq_true rfl) (by first | rfl | (simp [okst, rf_cat] <;> assumption)) (by first | exact rf_s _ | exact rf_n | exact rf_q _) ?_
              simp only [List.set_cons_zero, List.set_cons_succ]
              refine wa_ifnonnullV (pc := 168) 206 dJ26_treeify_168 rfl (by first | exact rf_s _ | exact rf_n | exact rf_q _) (fun a168 hb168 => ?_) (fun hb168 => ?_)
              · rw [hb168]
                refine wa_goto (pc := 206) (y := mJ26_treeify) 64 dJ26_treeify_206 rfl ?_
                first | (have hc := tp.2.2.1 _ hb168; have hc2 := t0.2 _ hc.1; exact ih2 _ _ _ _ _ rfl rfl rfl hc.1 (by omega) (by omega) (by omega)) | (have hc := tp.2.2.2.1 _ hb168; have hc2 := t0.2 _ hc.1; exact ih2 _ _ _ _ _ rfl rfl rfl hc.1 (by omega) (by omega) (by omega))
              · rw [hb168]
                refine wa_aloadV_n (pc := 171) (y := mJ26_treeify) dJ26_treeify_171 rfl (by first | exact rf_s _ | exact rf_n | exact rf_q _) ?_
                refine wa_aloadV (pc := 172) (y := mJ26_treeify) dJ26_treeify_172 rfl (by first | exact rf_s _ | exact rf_n | exact rf_q _) ?_
                refine wf_put (k := 14) (l := 11) 6 (.object "java/util/HashMap$TreeNode") dJ26_treeify_174 (by assumption) rfl q1614 (Or.inl rfl) (Nat.le_of_ble_eq_true rfl) rfl (by decide +kernel) (by first | rfl | exact rf_nar _ | exact rf_nar2 _) (by first | rfl | exact rf_fit _ | exact rf_fit2 _) ?_
                refine wa_iload (pc := 177) (y := mJ26_treeify) dJ26_treeify_177 rfl ?_
                refine wa_if_gt (pc := 179) 191 dJ26_treeify_179 rfl (fun hb179 => ?_) (fun hb179 => absurd hb179 (by decide))
                clear hb179
                refine wa_aloadV (pc := 191) (y := mJ26_treeify) dJ26_treeify_191 rfl (by first | exact rf_s _ | exact rf_n | exact rf_q _) ?_
                refine wa_aloadV_n (pc := 193) (y := mJ26_treeify) dJ26_treeify_193 rfl (by first | exact rf_s _ | exact rf_n | exact rf_q _) ?_
                refine wf_put (k := 14) (l := 11) 8 (.object "java/util/HashMap$TreeNode") dJ26_treeify_194 (by assumption) rfl q1616 (Or.inl rfl) (Nat.le_of_ble_eq_true rfl) rfl (by decide +kernel) (by first | rfl | exact rf_nar _ | exact rf_nar2 _) (by first | rfl | exact rf_fit _ | exact rf_fit2 _) ?_
                first | exact fin true _ _ _ _ _ _ _ _ _ _ _ _ rfl rfl rfl (t0.insL hp hxa hb168 (by omega) (by omega)) (tl0.insL hxa hxI (fun z hz => by have := hza z hz; grind [updF_eq]) (fun z hz => by have := hza z hz; grind [updF_eq]) (fun z hz => by have := hza z hz; grind [updF_eq]) (fun z hz => by have := hza z hz; grind [updF_eq]) (by grind [updF_eq]) (by grind [updF_eq]) (by grind [updF_eq]) (by grind [updF_eq]) hpx) (((frx.upd (hP 6 (by decide))).upd ⟨by simp [hp], by decide⟩)) | exact fin true _ _ _ _ _ _ _ _ _ _ _ _ rfl rfl rfl (t0.insR hp hxa hb168 (by omega) (by omega)) (tl0.insR hxa hxI (fun z hz => by have := hza z hz; grind [updF_eq]) (fun z hz => by have := hza z hz; grind [updF_eq]) (fun z hz => by have := hza z hz; grind [updF_eq]) (fun z hz => by have := hza z hz; grind [updF_eq]) (by grind [updF_eq]) (by grind [updF_eq]) (by grind [updF_eq]) (by grind [updF_eq]) hpx) (((frx.upd (hP 6 (by decide))).upd ⟨by simp [hp], by decide⟩))
            · have hb1 : κ x < κ p := Nat.lt_of_not_le fun q => hb81 ((iN_le (by omega) (by omega)).mpr q)
              refine wa_iconst (pc := 84) (y := mJ26_treeify) (-1) dJ26_treeify_84 rfl ?_
              refine wa_istore (pc := 85) (y := mJ26_treeify) dJ26_treeify_85 (Nat.le_of_ble_eq_true rfl) (by first | rfl | (simp [okst, rf_cat] <;> assumption)) ?_
              simp only [List.set_cons_zero, List.set_cons_succ]
              refine wa_goto (pc := 87) (y := mJ26_treeify) 143 dJ26_treeify_87 rfl ?_
              refine wa_aloadV (pc := 143) (y := mJ26_treeify) dJ26_treeify_143 rfl (by first | exact rf_s _ | exact rf_n | exact rf_q _) ?_
              refine wa_astoreV (pc := 145) (y := mJ26_treeify) dJ26_treeify_145 (Nat.le_of_ble_eq_true rfl) (by first | rfl | (simp [okst, rf_cat] <;> assumption)) (by first | exact rf_s _ | exact rf_n | exact rf_q _) ?_
              simp only [List.set_cons_zero, List.set_cons_succ]
              refine wa_iload (pc := 147) (y := mJ26_treeify) dJ26_treeify_147 rfl ?_
              refine wa_if_gt (pc := 149) 160 dJ26_treeify_149 rfl (fun hb149 => absurd hb149 (by decide)) (fun hb149 => ?_)
              clear hb149
              refine wa_aloadV (pc := 152) (y := mJ26_treeify) dJ26_treeify_152 rfl (by first | exact rf_s _ | exact rf_n | exact rf_q _) ?_
              refine wf_get (k := 14) (l := 11) 7 dJ26_treeify_154 (by assumption) rfl q1615 (Or.inl rfl) (Nat.le_of_ble_eq_true rfl) (Nat.le_of_ble_eq_true rfl) (by (repeat (first | exact updF_self _ _ _ _ | (apply updF_i; · decide) | (apply updF_a; · first | assumption | (apply Ne.symm; assumption) | omega) | (apply newF_a; · first | assumption | (apply Ne.symm; assumption) | omega) | exact newL_self (by rfl) | exact newF_self (by rfl) | (apply cpyF_a; · first | assumption | (apply Ne.symm; assumption) | omega))) <;> first | assumption | rfl) ?_
              refine wa_goto (pc := 157) (y := mJ26_treeify) 165 dJ26_treeify_157 rfl ?_
              refine wa_dup (pc := 165) (y := mJ26_treeify) dJ26_treeify_165 (by first | rfl | exact rf_cat _) ?_
              refine wa_astoreV (pc := 166) (y := mJ26_treeify) dJ26_treeify_166 (Nat.le_of_ble_eq_true rfl) (by first | rfl | (simp [okst, rf_cat] <;> assumption)) (by first | exact rf_s _ | exact rf_n | exact rf_q _) ?_
              simp only [List.set_cons_zero, List.set_cons_succ]
              refine wa_ifnonnullV (pc := 168) 206 dJ26_treeify_168 rfl (by first | exact rf_s _ | exact rf_n | exact rf_q _) (fun a168 hb168 => ?_) (fun hb168 => ?_)
              · rw [hb168]
                refine wa_goto (pc := 206) (y := mJ26_treeify) 64 dJ26_treeify_206 rfl ?_
                first | (have hc := tp.2.2.1 _ hb168; have hc2 := t0.2 _ hc.1; exact ih2 _ _ _ _ _ rfl rfl rfl hc.1 (by omega) (by omega) (by omega)) | (have hc := tp.2.2.2.1 _ hb168; have hc2 := t0.2 _ hc.1; exact ih2 _ _ _ _ _ rfl rfl rfl hc.1 (by omega) (by omega) (by omega))
              · rw [hb168]
                refine wa_aloadV_n (pc := 171) (y := mJ26_treeify) dJ26_treeify_171 rfl (by first | exact rf_s _ | exact rf_n | exact rf_q _) ?_
                refine wa_aloadV (pc := 172) (y := mJ26_treeify) dJ26_treeify_172 rfl (by first | exact rf_s _ | exact rf_n | exact rf_q _) ?_
                refine wf_put (k := 14) (l := 11) 6 (.object "java/util/HashMap$TreeNode") dJ26_treeify_174 (by assumption) rfl q1614 (Or.inl rfl) (Nat.le_of_ble_eq_true rfl) rfl (by decide +kernel) (by first | rfl | exact rf_nar _ | exact rf_nar2 _) (by first | rfl | exact rf_fit _ | exact rf_fit2 _) ?_
                refine wa_iload (pc := 177) (y := mJ26_treeify) dJ26_treeify_177 rfl ?_
                refine wa_if_gt (pc := 179) 191 dJ26_treeify_179 rfl (fun hb179 => absurd hb179 (by decide)) (fun hb179 => ?_)
                clear hb179
                refine wa_aloadV (pc := 182) (y := mJ26_treeify) dJ26_treeify_182 rfl (by first | exact rf_s _ | exact rf_n | exact rf_q _) ?_
                refine wa_aloadV_n (pc := 184) (y := mJ26_treeify) dJ26_treeify_184 rfl (by first | exact rf_s _ | exact rf_n | exact rf_q _) ?_
                refine wf_put (k := 14) (l := 11) 7 (.object "java/util/HashMap$TreeNode") dJ26_treeify_185 (by assumption) rfl q1615 (Or.inl rfl) (Nat.le_of_ble_eq_true rfl) rfl (by decide +kernel) (by first | rfl | exact rf_nar _ | exact rf_nar2 _) (by first | rfl | exact rf_fit _ | exact rf_fit2 _) ?_
                refine wa_goto (pc := 188) (y := mJ26_treeify) 197 dJ26_treeify_188 rfl ?_
                first | exact fin true _ _ _ _ _ _ _ _ _ _ _ _ rfl rfl rfl (t0.insL hp hxa hb168 (by omega) (by omega)) (tl0.insL hxa hxI (fun z hz => by have := hza z hz; grind [updF_eq]) (fun z hz => by have := hza z hz; grind [updF_eq]) (fun z hz => by have := hza z hz; grind [updF_eq]) (fun z hz => by have := hza z hz; grind [updF_eq]) (by grind [updF_eq]) (by grind [updF_eq]) (by grind [updF_eq]) (by grind [updF_eq]) hpx) (((frx.upd (hP 6 (by decide))).upd ⟨by simp [hp], by decide⟩)) | exact fin true _ _ _ _ _ _ _ _ _ _ _ _ rfl rfl rfl (t0.insR hp hxa hb168 (by omega) (by omega)) (tl0.insR hxa hxI (fun z hz => by have := hza z hz; grind [updF_eq]) (fun z hz => by have := hza z hz; grind [updF_eq]) (fun z hz => by have := hza z hz; grind [updF_eq]) (fun z hz => by have := hza z hz; grind [updF_eq]) (by grind [updF_eq]) (by grind [updF_eq]) (by grind [updF_eq]) (by grind [updF_eq]) hpx) (((frx.upd (hP 6 (by decide))).upd ⟨by simp [hp], by decide⟩))
        refine wa_aloadV_n (pc := 4) (y := mJ26_treeify) dJ26_treeify_4 rfl (by first | exact rf_s _ | exact rf_n | exact rf_q _) ?_
        refine wa_ifnull (pc := 5) (y := mJ26_treeify) dJ26_treeify_5 ?_
        refine wa_aloadV_n (pc := 8) (y := mJ26_treeify) dJ26_treeify_8 rfl (by first | exact rf_s _ | exact rf_n | exact rf_q _) ?_
        refine wf_get (k := 14) (l := 11) 3 dJ26_treeify_9 (by assumption) rfl q1334 (Or.inr q1335) (Nat.le_of_ble_eq_true rfl) (Nat.le_of_ble_eq_true rfl) (by (repeat (first | exact updF_self _ _ _ _ | (apply updF_i; · decide) | (apply updF_a; · first | assumption | (apply Ne.symm; assumption) | omega) | (apply newF_a; · first | assumption | (apply Ne.symm; assumption) | omega) | exact newL_self (by rfl) | exact newF_self (by rfl) | (apply cpyF_a; · first | assumption | (apply Ne.symm; assumption) | omega))) <;> first | assumption | rfl) ?_
        refine wn_castq dJ26_treeify_12 (by first | exact rf_s _ | exact rf_n | exact rf_q _) hrN q1290 ?_
        refine wa_astoreV (pc := 15) (y := mJ26_treeify) dJ26_treeify_15 (Nat.le_of_ble_eq_true rfl) (by first | rfl | (simp [okst, rf_cat] <;> assumption)) (by first | exact rf_s _ | exact rf_n | exact rf_q _) ?_
        simp only [List.set_cons_zero, List.set_cons_succ]
        refine wa_aloadV_n (pc := 17) (y := mJ26_treeify) dJ26_treeify_17 rfl (by first | exact rf_s _ | exact rf_n | exact rf_q _) ?_
        refine wa_aloadV_n (pc := 18) (y := mJ26_treeify) dJ26_treeify_18 rfl (by first | exact rf_s _ | exact rf_n | exact rf_q _) ?_
        refine wa_null (pc := 19) (y := mJ26_treeify) dJ26_treeify_19 ?_
        refine wa_dup_x1 (pc := 20) (y := mJ26_treeify) dJ26_treeify_20 (by first | rfl | exact rf_cat _) (by first | rfl | exact rf_cat _) ?_
        refine wf_put (k := 14) (l := 11) 8 (.object "java/util/HashMap$TreeNode") dJ26_treeify_21 (by assumption) rfl q1616 (Or.inl rfl) (Nat.le_of_ble_eq_true rfl) rfl (by decide +kernel) (by first | rfl | exact rf_nar _ | exact rf_nar2 _) (by first | rfl | exact rf_fit _ | exact rf_fit2 _) ?_
        refine wf_put (k := 14) (l := 11) 7 (.object "java/util/HashMap$TreeNode") dJ26_treeify_24 (by assumption) rfl q1615 (Or.inl rfl) (Nat.le_of_ble_eq_true rfl) rfl (by decide +kernel) (by first | rfl | exact rf_nar _ | exact rf_nar2 _) (by first | rfl | exact rf_fit _ | exact rf_fit2 _) ?_
        refine wa_aloadV_n (pc := 27) (y := mJ26_treeify) dJ26_treeify_27 rfl (by first | exact rf_s _ | exact rf_n | exact rf_q _) ?_
        refine wa_ifnonnull (pc := 28) (y := mJ26_treeify) 46 dJ26_treeify_28 rfl ?_
        refine wa_aloadV_n (pc := 46) (y := mJ26_treeify) dJ26_treeify_46 rfl (by first | exact rf_s _ | exact rf_n | exact rf_q _) ?_
        refine wf_get (k := 14) (l := 11) 1 dJ26_treeify_47 (by assumption) rfl q1321 (Or.inr q1322) (Nat.le_of_ble_eq_true rfl) (Nat.le_of_ble_eq_true rfl) (by (repeat (first | exact updF_self _ _ _ _ | (apply updF_i; · decide) | (apply updF_a; · first | assumption | (apply Ne.symm; assumption) | omega) | (apply newF_a; · first | assumption | (apply Ne.symm; assumption) | omega) | exact newL_self (by rfl) | exact newF_self (by rfl) | (apply cpyF_a; · first | assumption | (apply Ne.symm; assumption) | omega))) <;> first | assumption | rfl) ?_
        refine wa_astoreV (pc := 50) (y := mJ26_treeify) dJ26_treeify_50 (Nat.le_of_ble_eq_true rfl) (by first | rfl | (simp [okst, rf_cat] <;> assumption)) (by first | exact rf_s _ | exact rf_n | exact rf_q _) ?_
        simp only [List.set_cons_zero, List.set_cons_succ]
        refine wa_aloadV_n (pc := 52) (y := mJ26_treeify) dJ26_treeify_52 rfl (by first | exact rf_s _ | exact rf_n | exact rf_q _) ?_
        refine wf_get (k := 14) (l := 11) 0 dJ26_treeify_53 (by assumption) rfl q1314 (Or.inr q1315) (Nat.le_of_ble_eq_true rfl) (Nat.le_of_ble_eq_true rfl) (by (repeat (first | exact updF_self _ _ _ _ | (apply updF_i; · decide) | (apply updF_a; · first | assumption | (apply Ne.symm; assumption) | omega) | (apply newF_a; · first | assumption | (apply Ne.symm; assumption) | omega) | exact newL_self (by rfl) | exact newF_self (by rfl) | (apply cpyF_a; · first | assumption | (apply Ne.symm; assumption) | omega))) <;> first | assumption | rfl) ?_
        refine wa_istore (pc := 56) (y := mJ26_treeify) dJ26_treeify_56 (Nat.le_of_ble_eq_true rfl) (by first | rfl | (simp [okst, rf_cat] <;> assumption)) ?_
        simp only [List.set_cons_zero, List.set_cons_succ]
        refine wa_null (pc := 58) (y := mJ26_treeify) dJ26_treeify_58 ?_
        refine wa_astoreV (pc := 59) (y := mJ26_treeify) dJ26_treeify_59 (Nat.le_of_ble_eq_true rfl) (by first | rfl | (simp [okst, rf_cat] <;> assumption)) (by first | exact rf_s _ | exact rf_n | exact rf_q _) ?_
        simp only [List.set_cons_zero, List.set_cons_succ]
        refine wa_aloadV_n (pc := 61) (y := mJ26_treeify) dJ26_treeify_61 rfl (by first | exact rf_s _ | exact rf_n | exact rf_q _) ?_
        refine wa_astoreV (pc := 62) (y := mJ26_treeify) dJ26_treeify_62 (Nat.le_of_ble_eq_true rfl) (by first | rfl | (simp [okst, rf_cat] <;> assumption)) (by first | exact rf_s _ | exact rf_n | exact rf_q _) ?_
        simp only [List.set_cons_zero, List.set_cons_succ]
        exact inner _ _ _ _ _ _ c9 c10 c11 t0.1.1 (Nat.lt_succ_self _) (by have := (t0.2 root t0.1.1).2.1 t0.1.2; omega) (by have := (t0.2 root t0.1.1).2.1 t0.1.2; have := hκ x hxB; omega)
  change WA G d mJ26_treeify 0 [.ref hd0, .ref tb, .retAddr 0, .retAddr 0, .retAddr 0, .retAddr 0, .retAddr 0, .retAddr 0, .retAddr 0, .retAddr 0, .retAddr 0, .retAddr 0, .retAddr 0] [] _ _
  have h0 : B.head? = some hd0 := by rw [hB]; rfl
  refine wa_null (pc := 0) (y := mJ26_treeify) dJ26_treeify_0 ?_
  refine wa_astoreV_n (pc := 1) (y := mJ26_treeify) dJ26_treeify_1 (Nat.le_of_ble_eq_true rfl) (by first | rfl | (simp [okst, rf_cat] <;> assumption)) (by first | exact rf_s _ | exact rf_n | exact rf_q _) ?_
  change WA _ _ _ _ (List.set _ 2 _) _ _ _
  simp only [List.set_cons_zero, List.set_cons_succ]
  refine wa_aloadV_n (pc := 2) (y := mJ26_treeify) dJ26_treeify_2 rfl (by first | exact rf_s _ | exact rf_n | exact rf_q _) ?_
  refine wa_astoreV_n (pc := 3) (y := mJ26_treeify) dJ26_treeify_3 (Nat.le_of_ble_eq_true rfl) (by first | rfl | (simp [okst, rf_cat] <;> assumption)) (by first | exact rf_s _ | exact rf_n | exact rf_q _) ?_
  change WA _ _ _ _ (List.set _ 3 _) _ _ _
  simp only [List.set_cons_zero, List.set_cons_succ]
  have := outer B [] F none (.retAddr 0) (.retAddr 0) (.retAddr 0) (.retAddr 0) (.retAddr 0) (.retAddr 0) (.retAddr 0) (.retAddr 0) rfl rfl rfl rfl FrP.refl (Or.inl ⟨rfl, rfl⟩) (.retAddr 0); rw [h0] at this; exact this
end TREEIFY
