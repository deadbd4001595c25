/-! ===== resize: one bin ===== -/
section RZ1
variable {G : GG} {d n : Nat} {h h1 h2 h3 : AH} {F F1 F2 F3 : Nat → Nat → Value} {ρ ρ1 : Nat → Nat} {m p q x k tb nt i j : Nat} {ns a b B A : List Nat} {t t2 : Option Nat}
theorem ChE_add (hn : (A ++ [x]).Nodup) (c : ChE F i A t) (h1 : ∀ z, z ∈ A → F2 z i = if A.getLast? = some z then .ref x else F z i) (h2 : F2 x i = va_rf t2) : ChE F2 i (A ++ [x]) t2 :=
  ChE_app.mpr ⟨ChE_last (e2 := some x) (List.nodup_append.mp hn).1 h1 c, h2, trivial⟩
theorem HalfR.nil (e : F tb j = .null) : HalfR h F tb j [] ρ := ⟨[], e, Or.inl ⟨fun p hp => (by cases hp), trivial⟩, (by simp), fun p => ⟨fun hp => (by cases hp), fun ⟨z, hz, _⟩ => by cases hz⟩⟩
theorem HalfR.self (e : F tb j = va_rf A.head?) (b : BinR h F A) (hn : A.Nodup) : HalfR h F tb j A (fun z => z) := ⟨A, e, b, hn, fun p => ⟨fun hp => ⟨p, hp, rfl⟩, fun ⟨z, hz, e⟩ => e ▸ hz⟩⟩
/-- where the work on the bin B of slot j may write -/
def StP (tb nt j k : Nat) (B : List Nat) : Nat → Nat → Prop := fun z i => z = nt ∧ (i = j ∨ i = j + 2 ^ k) ∨ z = tb ∧ i = j ∨ z ∈ B ∧ (i = 3 ∨ i = 6 ∨ i = 7 ∨ i = 8 ∨ i = 9 ∨ i = 10)
def StQ (tb nt j k : Nat) (B : List Nat) (h : AH) (F : Nat → Nat → Value) (m : Nat) (ns : List Nat) (h3 : AH) (F3 : Nat → Nat → Value) : Prop :=
  ∃ (ρ : Nat → Nat) (D : List Nat), RepQ (StP tb nt j k B) 6 h F h3 F3 m ns ρ D ∧ D.Nodup ∧ (∀ z, z ∈ D → z ∈ B) ∧ (∀ z, z ∈ D → Is h3 (ρ z) 13 6) ∧
    HalfR h3 F3 nt j (B.filter fun z => !(kF F z).testBit k) ρ ∧ HalfR h3 F3 nt (j + 2 ^ k) (B.filter fun z => (kF F z).testBit k) ρ
/-- the loop over a plain bin -/
theorem rz_235 {Q : RR → AH → Prop} {F0 : Nat → Nat → Value} {v0 v1 v3 v4 v5 v6 : Value} {j7 : Int32} (hx : ∀ z, z ∈ B → Is h z 13 6 ∧ F0 z 0 = .int (Int32.ofNat (kF F0 z)) ∧ kF F0 z < 1200) (hn : B.Nodup) (hc : ChE F0 3 B none)
    (KQ : ∀ (F : Nat → Nat → Value) (v8 v13 : Value), FrP (fun z j => z ∈ B ∧ j = 3) F0 F → (∃ t, ChE F 3 (B.filter fun z => !(kF F0 z).testBit k) t) → (∃ t, ChE F 3 (B.filter fun z => (kF F0 z).testBit k) t) →
      WA G d mJ4_resize 309 [v0, v1, .int (Int32.ofNat (2 ^ k)), v3, v4, v5, v6, .int j7, v8, va_rf (B.filter fun z => !(kF F0 z).testBit k).head?, va_rf (B.filter fun z => !(kF F0 z).testBit k).getLast?, va_rf (B.filter fun z => (kF F0 z).testBit k).head?, va_rf (B.filter fun z => (kF F0 z).testBit k).getLast?, v13] [] (sF h F) Q) :
    ∀ (rest a : List Nat) (x : Nat) (F : Nat → Nat → Value) (v13 : Value), a ++ x :: rest = B → FrP (fun z j => z ∈ a ∧ j = 3) F0 F → (∃ t, ChE F 3 (a.filter fun z => !(kF F0 z).testBit k) t) → (∃ t, ChE F 3 (a.filter fun z => (kF F0 z).testBit k) t) →
      WA G d mJ4_resize 235 [v0, v1, .int (Int32.ofNat (2 ^ k)), v3, v4, v5, v6, .int j7, .ref x, va_rf (a.filter fun z => !(kF F0 z).testBit k).head?, va_rf (a.filter fun z => !(kF F0 z).testBit k).getLast?, va_rf (a.filter fun z => (kF F0 z).testBit k).head?, va_rf (a.filter fun z => (kF F0 z).testBit k).getLast?, v13] [] (sF h F) Q := by
  intro rest a x F v13 ha fr d1 d2
  have hxB : x ∈ B := by rw [← ha]; simp
  obtain ⟨xI, x0, xκ⟩ := hx x hxB
  have xN : Nd h x := Or.inl xI
  have hxa : x ∉ a := by rw [← ha] at hn; grind [List.nodup_append]
  have e0 : F x 0 = .int (Int32.ofNat (kF F0 x)) := (fr x 0 fun e => hxa e.1).trans x0
  have e3 : F x 3 = va_rf rest.head? := (fr x 3 fun e => hxa e.1).trans (by rw [← ha] at hc; rw [ChE.mem hc, or_none_])
  have ha2 : (a ++ [x]) ++ rest = B := by rw [← ha]; simp
  have hna : a.Nodup := by rw [← ha] at hn; exact (List.nodup_append.mp hn).1
  have hIa : ∀ z, z ∈ a → Is h z 13 6 := fun z hz => (hx z (by rw [← ha]; simp [hz])).1
  have fra : FrP (fun z j => z ∈ a ++ [x] ∧ j = 3) F0 F := fr.mono fun z j hz => ⟨by simp [hz.1], hz.2⟩
  have hmA : ∀ (f : Nat → Bool) z, z ∈ a.filter f → z ≠ x ∧ z ∈ a := fun f z hz => by
    have := (List.mem_filter.mp hz).1
    exact ⟨fun e => hxa (e ▸ this), this⟩
  have hnS : ∀ f : Nat → Bool, (a.filter f ++ [x]).Nodup := fun f => by
    have h1 : (a.filter f).Nodup := hna.filter _
    have h2 := fun z hz => (hmA f z hz).1
    rw [List.nodup_append]
    exact ⟨h1, by simp, fun z hz w hw => by simp at hw; rw [hw]; exact h2 z hz⟩
  have hdisj : ∀ z, z ∈ (a.filter fun z => !(kF F0 z).testBit k) → z ∉ (a.filter fun z => (kF F0 z).testBit k) := fun z h1 h2 => by simp at h1 h2; rw [h2.2] at h1; simp at h1
  have h301 : ∀ F2 : Nat → Nat → Value, FrP (fun z j => z ∈ a ++ [x] ∧ j = 3) F0 F2 → (∃ t, ChE F2 3 ((a ++ [x]).filter fun z => !(kF F0 z).testBit k) t) → (∃ t, ChE F2 3 ((a ++ [x]).filter fun z => (kF F0 z).testBit k) t) →
      WA G d mJ4_resize 301 [v0, v1, .int (Int32.ofNat (2 ^ k)), v3, v4, v5, v6, .int j7, .ref x, va_rf ((a ++ [x]).filter fun z => !(kF F0 z).testBit k).head?, va_rf ((a ++ [x]).filter fun z => !(kF F0 z).testBit k).getLast?, va_rf ((a ++ [x]).filter fun z => (kF F0 z).testBit k).head?, va_rf ((a ++ [x]).filter fun z => (kF F0 z).testBit k).getLast?, va_rf rest.head?] [] (sF h F2) Q := by
    intro F2 fr2 g1 g2
    cases rest with
    | nil =>
      rw [List.append_nil] at ha2
      rw [ha2] at fr2 g1 g2 ⊢
      refine wa_aloadV (pc := 301) (y := mJ4_resize) dJ4_resize_301 rfl (by first | exact rf_s _ | exact rf_n | exact rf_q _) ?_
      refine wa_dup (pc := 303) (y := mJ4_resize) dJ4_resize_303 (by first | rfl | exact rf_cat _) ?_
      refine wa_astoreV (pc := 304) (y := mJ4_resize) dJ4_resize_304 (Nat.le_of_ble_eq_true rfl) (by first | rfl | (simp [okst, rf_cat] <;> assumption)) (by first | exact rf_s _ | exact rf_n | exact rf_q _) ?_
      simp only [List.set_cons_zero, List.set_cons_succ]
      refine wa_ifnonnullN (pc := 306) (y := mJ4_resize) dJ4_resize_306 ?_
      exact KQ F2 _ _ fr2 g1 g2
    | cons y rest =>
      refine wa_aloadV (pc := 301) (y := mJ4_resize) dJ4_resize_301 rfl (by first | exact rf_s _ | exact rf_n | exact rf_q _) ?_
      refine wa_dup (pc := 303) (y := mJ4_resize) dJ4_resize_303 (by first | rfl | exact rf_cat _) ?_
      refine wa_astoreV (pc := 304) (y := mJ4_resize) dJ4_resize_304 (Nat.le_of_ble_eq_true rfl) (by first | rfl | (simp [okst, rf_cat] <;> assumption)) (by first | exact rf_s _ | exact rf_n | exact rf_q _) ?_
      simp only [List.set_cons_zero, List.set_cons_succ]
      refine wa_ifnonnull (pc := 306) (y := mJ4_resize) 235 dJ4_resize_306 rfl ?_
      exact rz_235 hx hn hc KQ rest (a ++ [x]) y F2 _ ha2 fr2 g1 g2
  cases hb : (kF F0 x).testBit k with
  | false =>
    have f1 : (a ++ [x]).filter (fun z => !(kF F0 z).testBit k) = (a.filter fun z => !(kF F0 z).testBit k) ++ [x] := by simp [hb]
    have f2 : (a ++ [x]).filter (fun z => (kF F0 z).testBit k) = (a.filter fun z => (kF F0 z).testBit k) := by simp [hb]
    have IH := h301
    rw [f1, f2] at IH
    have hS := hnS fun z => !(kF F0 z).testBit k
    have hA := hmA fun z => !(kF F0 z).testBit k
    have hA2 := hmA fun z => (kF F0 z).testBit k
    generalize (a.filter fun z => !(kF F0 z).testBit k) = A at *
    generalize (a.filter fun z => (kF F0 z).testBit k) = A2 at *
    obtain ⟨t1, d1⟩ := d1
    obtain ⟨t2, d2⟩ := d2
    refine wa_aloadV (pc := 235) (y := mJ4_resize) dJ4_resize_235 rfl (by first | exact rf_s _ | exact rf_n | exact rf_q _) ?_
    refine wn_get 3 dJ4_resize_237 (by assumption) q1337 (Or.inl rfl) (Nat.le_of_ble_eq_true rfl) (by (repeat (first | exact updF_self _ _ _ _ | (apply updF_i; · decide) | (apply updF_a; · first | assumption | (apply Ne.symm; assumption) | omega) | (apply newF_a; · first | assumption | (apply Ne.symm; assumption) | omega) | exact newL_self (by rfl) | exact newF_self (by rfl) | (apply cpyF_a; · first | assumption | (apply Ne.symm; assumption) | omega))) <;> first | assumption | rfl) ?_
    refine wa_astoreV (pc := 240) (y := mJ4_resize) dJ4_resize_240 (Nat.le_of_ble_eq_true rfl) (by first | rfl | (simp [okst, rf_cat] <;> assumption)) (by first | exact rf_s _ | exact rf_n | exact rf_q _) ?_
    simp only [List.set_cons_zero, List.set_cons_succ]
    refine wa_aloadV (pc := 242) (y := mJ4_resize) dJ4_resize_242 rfl (by first | exact rf_s _ | exact rf_n | exact rf_q _) ?_
    refine wn_get 0 dJ4_resize_244 (by assumption) q1319 (Or.inl rfl) (Nat.le_of_ble_eq_true rfl) (by (repeat (first | exact updF_self _ _ _ _ | (apply updF_i; · decide) | (apply updF_a; · first | assumption | (apply Ne.symm; assumption) | omega) | (apply newF_a; · first | assumption | (apply Ne.symm; assumption) | omega) | exact newL_self (by rfl) | exact newF_self (by rfl) | (apply cpyF_a; · first | assumption | (apply Ne.symm; assumption) | omega))) <;> first | assumption | rfl) ?_
    refine wa_iload_n (pc := 247) (y := mJ4_resize) dJ4_resize_247 rfl ?_
    refine wa_iand (pc := 248) (y := mJ4_resize) dJ4_resize_248 ?_
    refine wa_if_ne (pc := 249) 278 dJ4_resize_249 rfl (fun hb249 => absurd ((bit_0 xκ).mpr hb) hb249) (fun hb249 => ?_)
    refine wa_aloadV (pc := 252) (y := mJ4_resize) dJ4_resize_252 rfl (by first | exact rf_s _ | exact rf_n | exact rf_q _) ?_
    refine wa_ifnonnullV (pc := 254) 264 dJ4_resize_254 rfl (by first | exact rf_s _ | exact rf_n | exact rf_q _) (fun a254 hb254 => ?_) (fun hb254 => ?_)
    · have hw := hA _ (getLast_mem hb254)
      have hwm := getLast_mem hb254
      have hwI : Nd h a254 := Or.inl (hIa _ hw.2)
      rw [hb254]
      refine wa_aloadV (pc := 264) (y := mJ4_resize) dJ4_resize_264 rfl (by first | exact rf_s _ | exact rf_n | exact rf_q _) ?_
      refine wa_aloadV (pc := 266) (y := mJ4_resize) dJ4_resize_266 rfl (by first | exact rf_s _ | exact rf_n | exact rf_q _) ?_
      refine wn_put 3 (.object "java/util/HashMap$Node") dJ4_resize_268 (by assumption) q1337 (Or.inl rfl) (Nat.le_of_ble_eq_true rfl) rfl (by decide +kernel) (by first | rfl | exact rf_nar _ | exact rf_nar2 _) (by first | rfl | exact rf_fit _ | exact rf_fit2 _) ?_
      refine wa_aloadV (pc := 271) (y := mJ4_resize) dJ4_resize_271 rfl (by first | exact rf_s _ | exact rf_n | exact rf_q _) ?_
      refine wa_astoreV (pc := 273) (y := mJ4_resize) dJ4_resize_273 (Nat.le_of_ble_eq_true rfl) (by first | rfl | (simp [okst, rf_cat] <;> assumption)) (by first | exact rf_s _ | exact rf_n | exact rf_q _) ?_
      simp only [List.set_cons_zero, List.set_cons_succ]
      refine wa_goto (pc := 275) (y := mJ4_resize) 301 dJ4_resize_275 rfl ?_
      first | (subst hA0; have K := IH F fra ⟨_, ChE_add (t2 := rest.head?) (F2 := F) hS d1 (fun z hz => by cases hz) e3⟩ ⟨_, d2⟩; exact K) | (have K := IH (updF F a254 3 (.ref x)) (fra.upd ⟨by simp [hw.2], rfl⟩) ⟨_, ChE_add (t2 := rest.head?) hS d1 (fun z hz => by have := hA z hz; (clear IH hmA hnS hn ha ha2 f1 f2 fra fr hx hc hdisj KQ hIa d1 d2 hna h301; grind [updF_eq, va_rf])) ((updF_a (Ne.symm hw.1) rfl).trans e3)⟩ ⟨_, ChE_congr (fun z hz => updF_a (fun e => hdisj _ hwm (e ▸ hz)) rfl) d2⟩; rw [List.getLast?_append, show ([x] : List Nat).getLast? = some x from rfl, List.head?_append, show (A.head?).or ([x] : List Nat).head? = A.head? from by cases A <;> simp at hwm ⊢] at K; exact K)
    · have hA0 := getLast_none hb254
      rw [hb254]
      refine wa_aloadV (pc := 257) (y := mJ4_resize) dJ4_resize_257 rfl (by first | exact rf_s _ | exact rf_n | exact rf_q _) ?_
      refine wa_astoreV (pc := 259) (y := mJ4_resize) dJ4_resize_259 (Nat.le_of_ble_eq_true rfl) (by first | rfl | (simp [okst, rf_cat] <;> assumption)) (by first | exact rf_s _ | exact rf_n | exact rf_q _) ?_
      simp only [List.set_cons_zero, List.set_cons_succ]
      refine wa_goto (pc := 261) (y := mJ4_resize) 271 dJ4_resize_261 rfl ?_
      refine wa_aloadV (pc := 271) (y := mJ4_resize) dJ4_resize_271 rfl (by first | exact rf_s _ | exact rf_n | exact rf_q _) ?_
      refine wa_astoreV (pc := 273) (y := mJ4_resize) dJ4_resize_273 (Nat.le_of_ble_eq_true rfl) (by first | rfl | (simp [okst, rf_cat] <;> assumption)) (by first | exact rf_s _ | exact rf_n | exact rf_q _) ?_
      simp only [List.set_cons_zero, List.set_cons_succ]
      refine wa_goto (pc := 275) (y := mJ4_resize) 301 dJ4_resize_275 rfl ?_
      first | (subst hA0; have K := IH F fra ⟨_, ChE_add (t2 := rest.head?) (F2 := F) hS d1 (fun z hz => by cases hz) e3⟩ ⟨_, d2⟩; exact K) | (have K := IH (updF F a254 3 (.ref x)) (fra.upd ⟨by simp [hw.2], rfl⟩) ⟨_, ChE_add (t2 := rest.head?) hS d1 (fun z hz => by have := hA z hz; (clear IH hmA hnS hn ha ha2 f1 f2 fra fr hx hc hdisj KQ hIa d1 d2 hna h301; grind [updF_eq, va_rf])) ((updF_a (Ne.symm hw.1) rfl).trans e3)⟩ ⟨_, ChE_congr (fun z hz => updF_a (fun e => hdisj _ hwm (e ▸ hz)) rfl) d2⟩; rw [List.getLast?_append, show ([x] : List Nat).getLast? = some x from rfl, List.head?_append, show (A.head?).or ([x] : List Nat).head? = A.head? from by cases A <;> simp at hwm ⊢] at K; exact K)
  | true =>
    have f1 : (a ++ [x]).filter (fun z => !(kF F0 z).testBit k) = (a.filter fun z => !(kF F0 z).testBit k) := by simp [hb]
    have f2 : (a ++ [x]).filter (fun z => (kF F0 z).testBit k) = (a.filter fun z => (kF F0 z).testBit k) ++ [x] := by simp [hb]
    have IH := h301
    rw [f1, f2] at IH
    have hS := hnS fun z => (kF F0 z).testBit k
    have hA := hmA fun z => !(kF F0 z).testBit k
    have hA2 := hmA fun z => (kF F0 z).testBit k
    generalize (a.filter fun z => !(kF F0 z).testBit k) = A at *
    generalize (a.filter fun z => (kF F0 z).testBit k) = A2 at *
    obtain ⟨t1, d1⟩ := d1
    obtain ⟨t2, d2⟩ := d2
    refine wa_aloadV (pc := 235) (y := mJ4_resize) dJ4_resize_235 rfl (by first | exact rf_s _ | exact rf_n | exact rf_q _) ?_
    refine wn_get 3 dJ4_resize_237 (by assumption) q1337 (Or.inl rfl) (Nat.le_of_ble_eq_true rfl) (by (repeat (first | exact updF_self _ _ _ _ | (apply updF_i; · decide) | (apply updF_a; · first | assumption | (apply Ne.symm; assumption) | omega) | (apply newF_a; · first | assumption | (apply Ne.symm; assumption) | omega) | exact newL_self (by rfl) | exact newF_self (by rfl) | (apply cpyF_a; · first | assumption | (apply Ne.symm; assumption) | omega))) <;> first | assumption | rfl) ?_
    refine wa_astoreV (pc := 240) (y := mJ4_resize) dJ4_resize_240 (Nat.le_of_ble_eq_true rfl) (by first | rfl | (simp [okst, rf_cat] <;> assumption)) (by first | exact rf_s _ | exact rf_n | exact rf_q _) ?_
    simp only [List.set_cons_zero, List.set_cons_succ]
    refine wa_aloadV (pc := 242) (y := mJ4_resize) dJ4_resize_242 rfl (by first | exact rf_s _ | exact rf_n | exact rf_q _) ?_
    refine wn_get 0 dJ4_resize_244 (by assumption) q1319 (Or.inl rfl) (Nat.le_of_ble_eq_true rfl) (by (repeat (first | exact updF_self _ _ _ _ | (apply updF_i; · decide) | (apply updF_a; · first | assumption | (apply Ne.symm; assumption) | omega) | (apply newF_a; · first | assumption | (apply Ne.symm; assumption) | omega) | exact newL_self (by rfl) | exact newF_self (by rfl) | (apply cpyF_a; · first | assumption | (apply Ne.symm; assumption) | omega))) <;> first | assumption | rfl) ?_
    refine wa_iload_n (pc := 247) (y := mJ4_resize) dJ4_resize_247 rfl ?_
    refine wa_iand (pc := 248) (y := mJ4_resize) dJ4_resize_248 ?_
    refine wa_if_ne (pc := 249) 278 dJ4_resize_249 rfl (fun hb249 => ?_) (fun hb249 => absurd (((bit_0 xκ).mp hb249).symm.trans hb) (by simp))
    refine wa_aloadV (pc := 278) (y := mJ4_resize) dJ4_resize_278 rfl (by first | exact rf_s _ | exact rf_n | exact rf_q _) ?_
    refine wa_ifnonnullV (pc := 280) 290 dJ4_resize_280 rfl (by first | exact rf_s _ | exact rf_n | exact rf_q _) (fun a280 hb280 => ?_) (fun hb280 => ?_)
    · have hw := hA2 _ (getLast_mem hb280)
      have hwm := getLast_mem hb280
      have hwI : Nd h a280 := Or.inl (hIa _ hw.2)
      rw [hb280]
      refine wa_aloadV (pc := 290) (y := mJ4_resize) dJ4_resize_290 rfl (by first | exact rf_s _ | exact rf_n | exact rf_q _) ?_
      refine wa_aloadV (pc := 292) (y := mJ4_resize) dJ4_resize_292 rfl (by first | exact rf_s _ | exact rf_n | exact rf_q _) ?_
      refine wn_put 3 (.object "java/util/HashMap$Node") dJ4_resize_294 (by assumption) q1337 (Or.inl rfl) (Nat.le_of_ble_eq_true rfl) rfl (by decide +kernel) (by first | rfl | exact rf_nar _ | exact rf_nar2 _) (by first | rfl | exact rf_fit _ | exact rf_fit2 _) ?_
      refine wa_aloadV (pc := 297) (y := mJ4_resize) dJ4_resize_297 rfl (by first | exact rf_s _ | exact rf_n | exact rf_q _) ?_
      refine wa_astoreV (pc := 299) (y := mJ4_resize) dJ4_resize_299 (Nat.le_of_ble_eq_true rfl) (by first | rfl | (simp [okst, rf_cat] <;> assumption)) (by first | exact rf_s _ | exact rf_n | exact rf_q _) ?_
      simp only [List.set_cons_zero, List.set_cons_succ]
      first | (subst hA0; have K := IH F fra ⟨_, d1⟩ ⟨_, ChE_add (t2 := rest.head?) (F2 := F) hS d2 (fun z hz => by cases hz) e3⟩; exact K) | (have K := IH (updF F a280 3 (.ref x)) (fra.upd ⟨by simp [hw.2], rfl⟩) ⟨_, ChE_congr (fun z hz => updF_a (fun e => hdisj z hz (e ▸ hwm)) rfl) d1⟩ ⟨_, ChE_add (t2 := rest.head?) hS d2 (fun z hz => by have := hA2 z hz; (clear IH hmA hnS hn ha ha2 f1 f2 fra fr hx hc hdisj KQ hIa d1 d2 hna h301; grind [updF_eq, va_rf])) ((updF_a (Ne.symm hw.1) rfl).trans e3)⟩; rw [List.getLast?_append, show ([x] : List Nat).getLast? = some x from rfl, List.head?_append, show (A2.head?).or ([x] : List Nat).head? = A2.head? from by cases A2 <;> simp at hwm ⊢] at K; exact K)
    · have hA0 := getLast_none hb280
      rw [hb280]
      refine wa_aloadV (pc := 283) (y := mJ4_resize) dJ4_resize_283 rfl (by first | exact rf_s _ | exact rf_n | exact rf_q _) ?_
      refine wa_astoreV (pc := 285) (y := mJ4_resize) dJ4_resize_285 (Nat.le_of_ble_eq_true rfl) (by first | rfl | (simp [okst, rf_cat] <;> assumption)) (by first | exact rf_s _ | exact rf_n | exact rf_q _) ?_
      simp only [List.set_cons_zero, List.set_cons_succ]
      refine wa_goto (pc := 287) (y := mJ4_resize) 297 dJ4_resize_287 rfl ?_
      refine wa_aloadV (pc := 297) (y := mJ4_resize) dJ4_resize_297 rfl (by first | exact rf_s _ | exact rf_n | exact rf_q _) ?_
      refine wa_astoreV (pc := 299) (y := mJ4_resize) dJ4_resize_299 (Nat.le_of_ble_eq_true rfl) (by first | rfl | (simp [okst, rf_cat] <;> assumption)) (by first | exact rf_s _ | exact rf_n | exact rf_q _) ?_
      simp only [List.set_cons_zero, List.set_cons_succ]
      first | (subst hA0; have K := IH F fra ⟨_, d1⟩ ⟨_, ChE_add (t2 := rest.head?) (F2 := F) hS d2 (fun z hz => by cases hz) e3⟩; exact K) | (have K := IH (updF F a280 3 (.ref x)) (fra.upd ⟨by simp [hw.2], rfl⟩) ⟨_, ChE_congr (fun z hz => updF_a (fun e => hdisj z hz (e ▸ hwm)) rfl) d1⟩ ⟨_, ChE_add (t2 := rest.head?) hS d2 (fun z hz => by have := hA2 z hz; (clear IH hmA hnS hn ha ha2 f1 f2 fra fr hx hc hdisj KQ hIa d1 d2 hna h301; grind [updF_eq, va_rf])) ((updF_a (Ne.symm hw.1) rfl).trans e3)⟩; rw [List.getLast?_append, show ([x] : List Nat).getLast? = some x from rfl, List.head?_append, show (A2.head?).or ([x] : List Nat).head? = A2.head? from by cases A2 <;> simp at hwm ⊢] at K; exact K)
theorem StP.fr1 : FrP (StP tb nt j k B) F (updF F tb j .null) := FrP.refl.upd (Or.inr (Or.inl ⟨rfl, rfl⟩))
/-- one bin -/
theorem rz_157 {Q : RR → AH → Prop} {v3 v5 v8 v9 v10 v11 v12 v13 : Value} (hd : 6 ≤ d) (hG : StG G) (hm : Is h m 12 12) (lo0 : LO F m ns) (hnn : ns.Nodup) (hN : ∀ z, z ∈ ns → Nd h z) (htb : Is h tb 36 (2 ^ k)) (hnt : Is h nt 36 (2 ^ (k + 1))) (hne : tb ≠ nt) (hk : k < 15) (hj : j < 2 ^ k) (hBn : B.Nodup) (hsub : ∀ z, z ∈ B → z ∈ ns) (nk : ∀ z, z ∈ B → NodeR h F z)
    (hinj : ∀ p q, p ∈ B → q ∈ B → kF F p = kF F q → p = q) (hmod : ∀ z, z ∈ B → kF F z % 2 ^ k = j) (h0 : F tb j = va_rf B.head?) (hB : BinR h F B) (n0 : F nt j = .null) (n1 : F nt (j + 2 ^ k) = .null) (hlen : B.length < 1000)
    (KQ : ∀ (h3 : AH) (F3 : Nat → Nat → Value) (v8 v9 v10 v11 v12 v13 : Value), StQ tb nt j k B h F m ns h3 F3 → WA G d mJ4_resize 347 [.ref m, .ref tb, .int (Int32.ofNat (2 ^ k)), v3, .int (Int32.ofNat (2 ^ (k + 1))), v5, .ref nt, .int (Int32.ofNat j), v8, v9, v10, v11, v12, v13] [] (sF h3 F3) Q) :
    WA G d mJ4_resize 157 [.ref m, .ref tb, .int (Int32.ofNat (2 ^ k)), v3, .int (Int32.ofNat (2 ^ (k + 1))), v5, .ref nt, .int (Int32.ofNat j), v8, v9, v10, v11, v12, v13] [] (sF h F) Q := by
  have hk2 : 2 ^ (k + 1) < 2 ^ 16 := Nat.pow_lt_pow_right (by decide) (by omega)
  have hk0 : 0 < 2 ^ k := Nat.two_pow_pos k
  have hkk : 2 ^ (k + 1) = 2 ^ k + 2 ^ k := by rw [Nat.pow_succ]; omega
  have htm : tb ≠ m := htb.ne hm (by decide)
  have hnm : nt ≠ m := hnt.ne hm (by decide)
  have hzt : ∀ z, z ∈ ns → z ≠ tb := fun z hz => (hN z hz).ne htb (by decide) (by decide)
  have hzn : ∀ z, z ∈ ns → z ≠ nt := fun z hz => (hN z hz).ne hnt (by decide) (by decide)
  have hzm : ∀ z, z ∈ ns → z ≠ m := fun z hz => (hN z hz).ne hm (by decide) (by decide)
  have hlt : ∀ z, z ∈ ns → z < h.1 := fun z hz => (hN z hz).lt
  have hm9 : ¬ StP tb nt j k B m 8 ∧ ¬ StP tb nt j k B m 9 := ⟨fun e => by rcases e with e | e | e; exact hnm e.1.symm; exact htm e.1.symm; exact hzm m (hsub m e.1) rfl, fun e => by rcases e with e | e | e; exact hnm e.1.symm; exact htm e.1.symm; exact hzm m (hsub m e.1) rfl⟩
  have hz9 : ∀ z, z ∈ ns → ¬ StP tb nt j k B z 4 ∧ ¬ StP tb nt j k B z 5 := fun z hz => ⟨fun e => by rcases e with e | e | e; exact hzn z hz e.1; exact hzt z hz e.1; omega, fun e => by rcases e with e | e | e; exact hzn z hz e.1; exact hzt z hz e.1; omega⟩
  have same : ∀ F3, FrP (StP tb nt j k B) F F3 → HalfR h F3 nt j (B.filter fun z => !(kF F z).testBit k) (fun z => z) → HalfR h F3 nt (j + 2 ^ k) (B.filter fun z => (kF F z).testBit k) (fun z => z) → StQ tb nt j k B h F m ns h F3 := fun F3 fr e1 e2 =>
    ⟨fun z => z, [], (RepQ.refl lo0).fr (Q2 := StP tb nt j k B) fr (fun _ _ _ h9 => h9) hm9 hz9 (fun p hp => by cases hp), by simp, fun z hz => (by cases hz), fun z hz => (by cases hz), e1, e2⟩
  have gz : ∀ z i, z ∈ ns → updF F tb j .null z i = F z i := fun z i hz => updF_a (hzt z hz) rfl
  cases hBe : B with
  | nil =>
    subst hBe
    refine wa_aloadV_n (pc := 157) (y := mJ4_resize) dJ4_resize_157 rfl (by first | exact rf_s _ | exact rf_n | exact rf_q _) ?_
    refine wa_iload (pc := 158) (y := mJ4_resize) dJ4_resize_158 rfl ?_
    refine wf_aaload dJ4_resize_160 (by assumption) (by first | exact Or.inl rfl | exact Or.inr rfl) (by omega) (by (repeat (first | exact updF_self _ _ _ _ | (apply updF_i; · decide) | (apply updF_a; · first | assumption | (apply Ne.symm; assumption) | omega) | (apply newF_a; · first | assumption | (apply Ne.symm; assumption) | omega) | exact newL_self (by rfl) | exact newF_self (by rfl) | (apply cpyF_a; · first | assumption | (apply Ne.symm; assumption) | omega))) <;> first | assumption | rfl) ?_
    refine wa_dup (pc := 161) (y := mJ4_resize) dJ4_resize_161 (by first | rfl | exact rf_cat _) ?_
    refine wa_astoreV (pc := 162) (y := mJ4_resize) dJ4_resize_162 (Nat.le_of_ble_eq_true rfl) (by first | rfl | (simp [okst, rf_cat] <;> assumption)) (by first | exact rf_s _ | exact rf_n | exact rf_q _) ?_
    simp only [List.set_cons_zero, List.set_cons_succ]
    refine wa_ifnullN (pc := 164) (y := mJ4_resize) 347 dJ4_resize_164 rfl ?_
    exact KQ h F _ _ _ _ _ _ (same F FrP.refl (HalfR.nil n0) (HalfR.nil n1))
  | cons x B' =>
    have hxB : x ∈ B := by rw [hBe]; simp
    have hxn := hsub x hxB
    have xN := hN x hxn
    obtain ⟨-, ⟨x0, -⟩, -⟩ := nk x hxB
    have xκ := (nk x hxB).lt
    have hxt := hzt x hxn
    have hf : B.head? = some x := by rw [hBe]; rfl
    have e3 : F x 3 = va_rf B'.head? := by have := hB.chain; rw [hBe] at this; have := this.1; rwa [or_none_] at this
    rw [hf] at h0
    have h0 : F tb j = .ref x := h0
    cases hB2 : B' with
    | nil =>
      rw [hB2] at hBe e3
      have e3 : F x 3 = .null := e3
      have fx : ∀ i, i = j ∨ i = j + 2 ^ k → FrP (StP tb nt j k B) F (updF (updF F tb j .null) nt i (.ref x)) := fun i hi => StP.fr1.upd (Or.inl ⟨rfl, hi⟩)
      have bx : ∀ i, BinR h (updF (updF F tb j .null) nt i (.ref x)) [x] := fun i => (hBe ▸ hB : BinR h F [x]).congr Ext.refl fun z l hz _ => by
        simp only [List.mem_singleton] at hz
        subst hz
        exact (updF_a (hzn z hxn) rfl).trans (gz z l hxn)
      cases hb : (kF F x).testBit k with
      | false =>
        have hi : kF F x % 2 ^ (k + 1) = j := (bit_lo hb).trans (hmod x hxB)
        refine wa_aloadV_n (pc := 157) (y := mJ4_resize) dJ4_resize_157 rfl (by first | exact rf_s _ | exact rf_n | exact rf_q _) ?_
        refine wa_iload (pc := 158) (y := mJ4_resize) dJ4_resize_158 rfl ?_
        refine wf_aaload dJ4_resize_160 (by assumption) (by first | exact Or.inl rfl | exact Or.inr rfl) (by omega) (by (repeat (first | exact updF_self _ _ _ _ | (apply updF_i; · decide) | (apply updF_a; · first | assumption | (apply Ne.symm; assumption) | omega) | (apply newF_a; · first | assumption | (apply Ne.symm; assumption) | omega) | exact newL_self (by rfl) | exact newF_self (by rfl) | (apply cpyF_a; · first | assumption | (apply Ne.symm; assumption) | omega))) <;> first | assumption | rfl) ?_
        refine wa_dup (pc := 161) (y := mJ4_resize) dJ4_resize_161 (by first | rfl | exact rf_cat _) ?_
        refine wa_astoreV (pc := 162) (y := mJ4_resize) dJ4_resize_162 (Nat.le_of_ble_eq_true rfl) (by first | rfl | (simp [okst, rf_cat] <;> assumption)) (by first | exact rf_s _ | exact rf_n | exact rf_q _) ?_
        simp only [List.set_cons_zero, List.set_cons_succ]
        refine wa_ifnull (pc := 164) (y := mJ4_resize) dJ4_resize_164 ?_
        refine wa_aloadV_n (pc := 167) (y := mJ4_resize) dJ4_resize_167 rfl (by first | exact rf_s _ | exact rf_n | exact rf_q _) ?_
        refine wa_iload (pc := 168) (y := mJ4_resize) dJ4_resize_168 rfl ?_
        refine wa_null (pc := 170) (y := mJ4_resize) dJ4_resize_170 ?_
        refine wf_aastoreN dJ4_resize_171 (by assumption) (by first | exact Or.inl rfl | exact Or.inr rfl) (by omega) ?_
        refine wa_aloadV (pc := 172) (y := mJ4_resize) dJ4_resize_172 rfl (by first | exact rf_s _ | exact rf_n | exact rf_q _) ?_
        refine wn_get 3 dJ4_resize_174 (by assumption) q1337 (Or.inl rfl) (Nat.le_of_ble_eq_true rfl) (by (repeat (first | exact updF_self _ _ _ _ | (apply updF_i; · decide) | (apply updF_a; · first | assumption | (apply Ne.symm; assumption) | omega) | (apply newF_a; · first | assumption | (apply Ne.symm; assumption) | omega) | exact newL_self (by rfl) | exact newF_self (by rfl) | (apply cpyF_a; · first | assumption | (apply Ne.symm; assumption) | omega))) <;> first | assumption | rfl) ?_
        refine wa_ifnonnullN (pc := 177) (y := mJ4_resize) dJ4_resize_177 ?_
        refine wa_aloadV (pc := 180) (y := mJ4_resize) dJ4_resize_180 rfl (by first | exact rf_s _ | exact rf_n | exact rf_q _) ?_
        refine wa_aloadV (pc := 182) (y := mJ4_resize) dJ4_resize_182 rfl (by first | exact rf_s _ | exact rf_n | exact rf_q _) ?_
        refine wn_get 0 dJ4_resize_184 (by assumption) q1319 (Or.inl rfl) (Nat.le_of_ble_eq_true rfl) (by (repeat (first | exact updF_self _ _ _ _ | (apply updF_i; · decide) | (apply updF_a; · first | assumption | (apply Ne.symm; assumption) | omega) | (apply newF_a; · first | assumption | (apply Ne.symm; assumption) | omega) | exact newL_self (by rfl) | exact newF_self (by rfl) | (apply cpyF_a; · first | assumption | (apply Ne.symm; assumption) | omega))) <;> first | assumption | rfl) ?_
        refine wa_iload (pc := 187) (y := mJ4_resize) dJ4_resize_187 rfl ?_
        refine wa_iconst (pc := 189) (y := mJ4_resize) (Int32.ofNat 1) dJ4_resize_189 rfl ?_
        refine wa_isub (pc := 190) (y := mJ4_resize) dJ4_resize_190 ?_
        rw [iN_sub (by omega)]
        refine wa_iand (pc := 191) (y := mJ4_resize) dJ4_resize_191 ?_
        rw [iN_and, Nat.and_two_pow_sub_one_eq_mod, hi]
        refine wa_aloadV (pc := 192) (y := mJ4_resize) dJ4_resize_192 rfl (by first | exact rf_s _ | exact rf_n | exact rf_q _) ?_
        refine wf_aastoreV (pc := 194) (y := mJ4_resize) "java/util/HashMap$Node" dJ4_resize_194 hnt (Or.inr ⟨rfl, rfl⟩) (by omega) (rf_s x) (fun z hz => by cases hz; exact xN.stor) ?_
        refine wa_goto (pc := 195) (y := mJ4_resize) 347 dJ4_resize_195 rfl ?_
        exact KQ h _ _ _ _ _ _ _ (same _ (fx j (Or.inl rfl)) (by rw [hBe]; simp only [List.filter, hb]; exact HalfR.self (updF_self _ _ _ _) (bx j) (by simp)) (by rw [hBe]; simp only [List.filter, hb]; exact HalfR.nil ((updF_i (by omega) rfl).trans ((updF_a (Ne.symm hne) rfl).trans n1))))
      | true =>
        have hi : kF F x % 2 ^ (k + 1) = j + 2 ^ k := by rw [bit_hi hb, hmod x hxB]
        refine wa_aloadV_n (pc := 157) (y := mJ4_resize) dJ4_resize_157 rfl (by first | exact rf_s _ | exact rf_n | exact rf_q _) ?_
        refine wa_iload (pc := 158) (y := mJ4_resize) dJ4_resize_158 rfl ?_
        refine wf_aaload dJ4_resize_160 (by assumption) (by first | exact Or.inl rfl | exact Or.inr rfl) (by omega) (by (repeat (first | exact updF_self _ _ _ _ | (apply updF_i; · decide) | (apply updF_a; · first | assumption | (apply Ne.symm; assumption) | omega) | (apply newF_a; · first | assumption | (apply Ne.symm; assumption) | omega) | exact newL_self (by rfl) | exact newF_self (by rfl) | (apply cpyF_a; · first | assumption | (apply Ne.symm; assumption) | omega))) <;> first | assumption | rfl) ?_
        refine wa_dup (pc := 161) (y := mJ4_resize) dJ4_resize_161 (by first | rfl | exact rf_cat _) ?_
        refine wa_astoreV (pc := 162) (y := mJ4_resize) dJ4_resize_162 (Nat.le_of_ble_eq_true rfl) (by first | rfl | (simp [okst, rf_cat] <;> assumption)) (by first | exact rf_s _ | exact rf_n | exact rf_q _) ?_
        simp only [List.set_cons_zero, List.set_cons_succ]
        refine wa_ifnull (pc := 164) (y := mJ4_resize) dJ4_resize_164 ?_
        refine wa_aloadV_n (pc := 167) (y := mJ4_resize) dJ4_resize_167 rfl (by first | exact rf_s _ | exact rf_n | exact rf_q _) ?_
        refine wa_iload (pc := 168) (y := mJ4_resize) dJ4_resize_168 rfl ?_
        refine wa_null (pc := 170) (y := mJ4_resize) dJ4_resize_170 ?_
        refine wf_aastoreN dJ4_resize_171 (by assumption) (by first | exact Or.inl rfl | exact Or.inr rfl) (by omega) ?_
        refine wa_aloadV (pc := 172) (y := mJ4_resize) dJ4_resize_172 rfl (by first | exact rf_s _ | exact rf_n | exact rf_q _) ?_
        refine wn_get 3 dJ4_resize_174 (by assumption) q1337 (Or.inl rfl) (Nat.le_of_ble_eq_true rfl) (by (repeat (first | exact updF_self _ _ _ _ | (apply updF_i; · decide) | (apply updF_a; · first | assumption | (apply Ne.symm; assumption) | omega) | (apply newF_a; · first | assumption | (apply Ne.symm; assumption) | omega) | exact newL_self (by rfl) | exact newF_self (by rfl) | (apply cpyF_a; · first | assumption | (apply Ne.symm; assumption) | omega))) <;> first | assumption | rfl) ?_
        refine wa_ifnonnullN (pc := 177) (y := mJ4_resize) dJ4_resize_177 ?_
        refine wa_aloadV (pc := 180) (y := mJ4_resize) dJ4_resize_180 rfl (by first | exact rf_s _ | exact rf_n | exact rf_q _) ?_
        refine wa_aloadV (pc := 182) (y := mJ4_resize) dJ4_resize_182 rfl (by first | exact rf_s _ | exact rf_n | exact rf_q _) ?_
        refine wn_get 0 dJ4_resize_184 (by assumption) q1319 (Or.inl rfl) (Nat.le_of_ble_eq_true rfl) (by (repeat (first | exact updF_self _ _ _ _ | (apply updF_i; · decide) | (apply updF_a; · first | assumption | (apply Ne.symm; assumption) | omega) | (apply newF_a; · first | assumption | (apply Ne.symm; assumption) | omega) | exact newL_self (by rfl) | exact newF_self (by rfl) | (apply cpyF_a; · first | assumption | (apply Ne.symm; assumption) | omega))) <;> first | assumption | rfl) ?_
        refine wa_iload (pc := 187) (y := mJ4_resize) dJ4_resize_187 rfl ?_
        refine wa_iconst (pc := 189) (y := mJ4_resize) (Int32.ofNat 1) dJ4_resize_189 rfl ?_
        refine wa_isub (pc := 190) (y := mJ4_resize) dJ4_resize_190 ?_
        rw [iN_sub (by omega)]
        refine wa_iand (pc := 191) (y := mJ4_resize) dJ4_resize_191 ?_
        rw [iN_and, Nat.and_two_pow_sub_one_eq_mod, hi]
        refine wa_aloadV (pc := 192) (y := mJ4_resize) dJ4_resize_192 rfl (by first | exact rf_s _ | exact rf_n | exact rf_q _) ?_
        refine wf_aastoreV (pc := 194) (y := mJ4_resize) "java/util/HashMap$Node" dJ4_resize_194 hnt (Or.inr ⟨rfl, rfl⟩) (by omega) (rf_s x) (fun z hz => by cases hz; exact xN.stor) ?_
        refine wa_goto (pc := 195) (y := mJ4_resize) 347 dJ4_resize_195 rfl ?_
        exact KQ h _ _ _ _ _ _ _ (same _ (fx _ (Or.inr rfl)) (by rw [hBe]; simp only [List.filter, hb]; exact HalfR.nil ((updF_i (by omega) rfl).trans ((updF_a (Ne.symm hne) rfl).trans n0))) (by rw [hBe]; simp only [List.filter, hb]; exact HalfR.self (updF_self _ _ _ _) (bx _) (by simp)))
    | cons y B2 =>
      have e3 : F x 3 = .ref y := by rw [hB2] at e3; exact e3
      rcases hB with lb | tbn
      · have xI := lb.1 x hxB
        have hch := lb.2
        have hfc : ∀ f : Bool → Bool, (B.filter fun z => f ((kF (updF F tb j .null) z).testBit k)) = B.filter fun z => f ((kF F z).testBit k) := fun f => List.filter_congr fun z hz => by rw [kF_congr (gz z 0 (hsub z hz))]
        have hIB : ∀ z, z ∈ B → Is h z 13 6 := fun z hz => lb.1 z hz
        have hzn2 : ∀ z, z ∈ B → z ≠ nt := fun z hz => hzn z (hsub z hz)
        have hkB : ∀ z, z ∈ B → kF (updF F tb j .null) z = kF F z := fun z hz => kF_congr (gz z 0 (hsub z hz))
        have m0 : (updF F tb j .null) nt j = .null := (updF_a (Ne.symm hne) rfl).trans n0
        have m1 : (updF F tb j .null) nt (j + 2 ^ k) = .null := (updF_a (Ne.symm hne) rfl).trans n1
        have FIN : ∀ (F3 : Nat → Nat → Value) (v8 v13 : Value), FrP (fun z i => z ∈ B ∧ i = 3) (updF F tb j .null) F3 → (∃ t, ChE F3 3 (B.filter fun z => !(kF F z).testBit k) t) → (∃ t, ChE F3 3 (B.filter fun z => (kF F z).testBit k) t) →
            WA G d mJ4_resize 309 [.ref m, .ref tb, .int (Int32.ofNat (2 ^ k)), v3, .int (Int32.ofNat (2 ^ (k + 1))), v5, .ref nt, .int (Int32.ofNat j), v8, va_rf (B.filter fun z => !(kF F z).testBit k).head?, va_rf (B.filter fun z => !(kF F z).testBit k).getLast?, va_rf (B.filter fun z => (kF F z).testBit k).head?, va_rf (B.filter fun z => (kF F z).testBit k).getLast?, v13] [] (sF h F3) Q := by
          intro F3 v8 v13 fr3 g1 g2
          have A1n : (B.filter fun z => !(kF F z).testBit k).Nodup := hBn.filter _
          have A2n : (B.filter fun z => (kF F z).testBit k).Nodup := hBn.filter _
          have A1B : ∀ z, z ∈ (B.filter fun z => !(kF F z).testBit k) → z ∈ B := fun z hz => (List.mem_filter.mp hz).1
          have A2B : ∀ z, z ∈ (B.filter fun z => (kF F z).testBit k) → z ∈ B := fun z hz => (List.mem_filter.mp hz).1
          have hdj : ∀ z, z ∈ (B.filter fun z => !(kF F z).testBit k) → z ∉ (B.filter fun z => (kF F z).testBit k) := fun z h1 h2 => by simp at h1 h2; rw [h2.2] at h1; simp at h1
          have q0 : F3 nt j = .null := (fr3 nt j fun e => hzn2 nt e.1 rfl).trans m0
          have q1 : F3 nt (j + 2 ^ k) = .null := (fr3 nt _ fun e => hzn2 nt e.1 rfl).trans m1
          have fr4 : FrP (StP tb nt j k B) F F3 := StP.fr1.trans (fr3.mono fun z i e => Or.inr (Or.inr ⟨e.1, Or.inl e.2⟩))
          clear h0 hmod hinj nk
          generalize (B.filter fun z => !(kF F z).testBit k) = A at *
          generalize (B.filter fun z => (kF F z).testBit k) = A2 at *
          obtain ⟨t1, g1⟩ := g1
          obtain ⟨t2, g2⟩ := g2
          have hend : ∀ F4 v8 v9 v10 v11 v12 v13, FrP (StP tb nt j k B) F F4 → F4 nt j = va_rf A.head? → ChE F4 3 A none → F4 nt (j + 2 ^ k) = va_rf A2.head? → ChE F4 3 A2 none → WA G d mJ4_resize 347 [.ref m, .ref tb, .int (Int32.ofNat (2 ^ k)), v3, .int (Int32.ofNat (2 ^ (k + 1))), v5, .ref nt, .int (Int32.ofNat j), v8, v9, v10, v11, v12, v13] [] (sF h F4) Q := fun F4 v8 v9 v10 v11 v12 v13 e1 e2 e3 e4 e5 =>
            KQ h F4 _ _ _ _ _ _ (same F4 e1 (HalfR.self e2 (Or.inl ⟨fun p hp => hIB p (A1B p hp), e3⟩) A1n) (HalfR.self e4 (Or.inl ⟨fun p hp => hIB p (A2B p hp), e5⟩) A2n))
          have h327 : ∀ F4, FrP (StP tb nt j k B) F F4 → F4 nt j = va_rf A.head? → ChE F4 3 A none → F4 nt (j + 2 ^ k) = .null → (∀ z, z ∈ A2 → F4 z 3 = F3 z 3) → WA G d mJ4_resize 327 [.ref m, .ref tb, .int (Int32.ofNat (2 ^ k)), v3, .int (Int32.ofNat (2 ^ (k + 1))), v5, .ref nt, .int (Int32.ofNat j), v8, va_rf A.head?, va_rf A.getLast?, va_rf A2.head?, va_rf A2.getLast?, v13] [] (sF h F4) Q := by
            intro F4 e1 e2 e3 e4 e5
            refine wa_aloadV (pc := 327) (y := mJ4_resize) dJ4_resize_327 rfl (by first | exact rf_s _ | exact rf_n | exact rf_q _) ?_
            refine wa_ifnullV (pc := 329) 347 dJ4_resize_329 rfl (by first | exact rf_s _ | exact rf_n | exact rf_q _) (fun hb329 => ?_) (fun a329 hb329 => ?_)
            · have hA0 := getLast_none hb329
              first | (subst hA0; exact hend F4 _ _ _ _ _ _ e1 e2 e3 e4 trivial) | exact hend _ _ _ _ _ _ _ ((e1.upd (Or.inr (Or.inr ⟨A2B _ hwm, Or.inl rfl⟩))).upd (Or.inl ⟨rfl, Or.inr rfl⟩)) ((updF_i (by omega) rfl).trans ((updF_a (Ne.symm (hzn2 _ (A2B _ hwm))) rfl).trans e2)) (ChE_congr (fun z hz => (updF_a (hzn2 z (A1B z hz)) rfl).trans (updF_a (fun e => hdj z hz (e ▸ hwm)) rfl)) e3) (updF_self _ _ _ _) (ChE_last (e2 := none) A2n (fun z hz => (updF_a (hzn2 z (A2B z hz)) rfl).trans (by by_cases ez : z = a329; (subst ez; rw [updF_self, if_pos hb329]; rfl); (rw [updF_a ez rfl, if_neg (fun e => ez (Option.some.inj (e.symm.trans hb329)).symm.symm)]; exact e5 z hz))) g2)
            · have hwm := getLast_mem hb329
              have hwI : Nd h a329 := Or.inl (hIB _ (A2B _ hwm))
              rw [hb329]
              refine wa_aloadV (pc := 332) (y := mJ4_resize) dJ4_resize_332 rfl (by first | exact rf_s _ | exact rf_n | exact rf_q _) ?_
              refine wa_null (pc := 334) (y := mJ4_resize) dJ4_resize_334 ?_
              refine wn_put 3 (.object "java/util/HashMap$Node") dJ4_resize_335 (by assumption) q1337 (Or.inl rfl) (Nat.le_of_ble_eq_true rfl) rfl (by decide +kernel) (by first | rfl | exact rf_nar _ | exact rf_nar2 _) (by first | rfl | exact rf_fit _ | exact rf_fit2 _) ?_
              refine wa_aloadV (pc := 338) (y := mJ4_resize) dJ4_resize_338 rfl (by first | exact rf_s _ | exact rf_n | exact rf_q _) ?_
              refine wa_iload (pc := 340) (y := mJ4_resize) dJ4_resize_340 rfl ?_
              refine wa_iload_n (pc := 342) (y := mJ4_resize) dJ4_resize_342 rfl ?_
              first | with_reducible refine wa_iaddN (pc := 343) (y := mJ4_resize) dJ4_resize_343 ?_ | refine wa_iadd (pc := 343) (y := mJ4_resize) dJ4_resize_343 ?_
              refine wa_aloadV (pc := 344) (y := mJ4_resize) dJ4_resize_344 rfl (by first | exact rf_s _ | exact rf_n | exact rf_q _) ?_
              refine wf_aastoreV (pc := 346) (y := mJ4_resize) "java/util/HashMap$Node" dJ4_resize_346 hnt (Or.inr ⟨rfl, rfl⟩) (by omega) (rf_q _) (fun z hz => Nd.stor (Or.inl (hIB z (A2B z (head_mem hz))))) ?_
              first | (subst hA0; exact hend F4 _ _ _ _ _ _ e1 e2 e3 e4 trivial) | exact hend _ _ _ _ _ _ _ ((e1.upd (Or.inr (Or.inr ⟨A2B _ hwm, Or.inl rfl⟩))).upd (Or.inl ⟨rfl, Or.inr rfl⟩)) ((updF_i (by omega) rfl).trans ((updF_a (Ne.symm (hzn2 _ (A2B _ hwm))) rfl).trans e2)) (ChE_congr (fun z hz => (updF_a (hzn2 z (A1B z hz)) rfl).trans (updF_a (fun e => hdj z hz (e ▸ hwm)) rfl)) e3) (updF_self _ _ _ _) (ChE_last (e2 := none) A2n (fun z hz => (updF_a (hzn2 z (A2B z hz)) rfl).trans (by by_cases ez : z = a329; (subst ez; rw [updF_self, if_pos hb329]; rfl); (rw [updF_a ez rfl, if_neg (fun e => ez (Option.some.inj (e.symm.trans hb329)).symm.symm)]; exact e5 z hz))) g2)
          refine wa_aloadV (pc := 309) (y := mJ4_resize) dJ4_resize_309 rfl (by first | exact rf_s _ | exact rf_n | exact rf_q _) ?_
          refine wa_ifnullV (pc := 311) 327 dJ4_resize_311 rfl (by first | exact rf_s _ | exact rf_n | exact rf_q _) (fun hb311 => ?_) (fun a311 hb311 => ?_)
          · have hA0 := getLast_none hb311
            first | (subst hA0; exact h327 F3 fr4 q0 trivial q1 (fun _ _ => rfl)) | exact h327 _ ((fr4.upd (Or.inr (Or.inr ⟨A1B _ hwm, Or.inl rfl⟩))).upd (Or.inl ⟨rfl, Or.inl rfl⟩)) (updF_self _ _ _ _) (ChE_last (e2 := none) A1n (fun z hz => (updF_a (hzn2 z (A1B z hz)) rfl).trans (by by_cases ez : z = a311; (subst ez; rw [updF_self, if_pos hb311]; rfl); (rw [updF_a ez rfl, if_neg (fun e => ez (Option.some.inj (e.symm.trans hb311)).symm.symm)]))) g1) ((updF_i (by omega) rfl).trans ((updF_a (Ne.symm (hzn2 _ (A1B _ hwm))) rfl).trans q1)) (fun z hz => (updF_a (hzn2 z (A2B z hz)) rfl).trans (updF_a (fun e => hdj _ hwm (e ▸ hz)) rfl))
          · have hwm := getLast_mem hb311
            have hwI : Nd h a311 := Or.inl (hIB _ (A1B _ hwm))
            rw [hb311] at h327 ⊢
            refine wa_aloadV (pc := 314) (y := mJ4_resize) dJ4_resize_314 rfl (by first | exact rf_s _ | exact rf_n | exact rf_q _) ?_
            refine wa_null (pc := 316) (y := mJ4_resize) dJ4_resize_316 ?_
            refine wn_put 3 (.object "java/util/HashMap$Node") dJ4_resize_317 (by assumption) q1337 (Or.inl rfl) (Nat.le_of_ble_eq_true rfl) rfl (by decide +kernel) (by first | rfl | exact rf_nar _ | exact rf_nar2 _) (by first | rfl | exact rf_fit _ | exact rf_fit2 _) ?_
            refine wa_aloadV (pc := 320) (y := mJ4_resize) dJ4_resize_320 rfl (by first | exact rf_s _ | exact rf_n | exact rf_q _) ?_
            refine wa_iload (pc := 322) (y := mJ4_resize) dJ4_resize_322 rfl ?_
            refine wa_aloadV (pc := 324) (y := mJ4_resize) dJ4_resize_324 rfl (by first | exact rf_s _ | exact rf_n | exact rf_q _) ?_
            refine wf_aastoreV (pc := 326) (y := mJ4_resize) "java/util/HashMap$Node" dJ4_resize_326 hnt (Or.inr ⟨rfl, rfl⟩) (by omega) (rf_q _) (fun z hz => Nd.stor (Or.inl (hIB z (A1B z (head_mem hz))))) ?_
            first | (subst hA0; exact h327 F3 fr4 q0 trivial q1 (fun _ _ => rfl)) | exact h327 _ ((fr4.upd (Or.inr (Or.inr ⟨A1B _ hwm, Or.inl rfl⟩))).upd (Or.inl ⟨rfl, Or.inl rfl⟩)) (updF_self _ _ _ _) (ChE_last (e2 := none) A1n (fun z hz => (updF_a (hzn2 z (A1B z hz)) rfl).trans (by by_cases ez : z = a311; (subst ez; rw [updF_self, if_pos hb311]; rfl); (rw [updF_a ez rfl, if_neg (fun e => ez (Option.some.inj (e.symm.trans hb311)).symm.symm)]))) g1) ((updF_i (by omega) rfl).trans ((updF_a (Ne.symm (hzn2 _ (A1B _ hwm))) rfl).trans q1)) (fun z hz => (updF_a (hzn2 z (A2B z hz)) rfl).trans (updF_a (fun e => hdj _ hwm (e ▸ hz)) rfl))
        refine wa_aloadV_n (pc := 157) (y := mJ4_resize) dJ4_resize_157 rfl (by first | exact rf_s _ | exact rf_n | exact rf_q _) ?_
        refine wa_iload (pc := 158) (y := mJ4_resize) dJ4_resize_158 rfl ?_
        refine wf_aaload dJ4_resize_160 (by assumption) (by first | exact Or.inl rfl | exact Or.inr rfl) (by omega) (by (repeat (first | exact updF_self _ _ _ _ | (apply updF_i; · decide) | (apply updF_a; · first | assumption | (apply Ne.symm; assumption) | omega) | (apply newF_a; · first | assumption | (apply Ne.symm; assumption) | omega) | exact newL_self (by rfl) | exact newF_self (by rfl) | (apply cpyF_a; · first | assumption | (apply Ne.symm; assumption) | omega))) <;> first | assumption | rfl) ?_
        refine wa_dup (pc := 161) (y := mJ4_resize) dJ4_resize_161 (by first | rfl | exact rf_cat _) ?_
        refine wa_astoreV (pc := 162) (y := mJ4_resize) dJ4_resize_162 (Nat.le_of_ble_eq_true rfl) (by first | rfl | (simp [okst, rf_cat] <;> assumption)) (by first | exact rf_s _ | exact rf_n | exact rf_q _) ?_
        simp only [List.set_cons_zero, List.set_cons_succ]
        refine wa_ifnull (pc := 164) (y := mJ4_resize) dJ4_resize_164 ?_
        refine wa_aloadV_n (pc := 167) (y := mJ4_resize) dJ4_resize_167 rfl (by first | exact rf_s _ | exact rf_n | exact rf_q _) ?_
        refine wa_iload (pc := 168) (y := mJ4_resize) dJ4_resize_168 rfl ?_
        refine wa_null (pc := 170) (y := mJ4_resize) dJ4_resize_170 ?_
        refine wf_aastoreN dJ4_resize_171 (by assumption) (by first | exact Or.inl rfl | exact Or.inr rfl) (by omega) ?_
        refine wa_aloadV (pc := 172) (y := mJ4_resize) dJ4_resize_172 rfl (by first | exact rf_s _ | exact rf_n | exact rf_q _) ?_
        refine wn_get 3 dJ4_resize_174 (by assumption) q1337 (Or.inl rfl) (Nat.le_of_ble_eq_true rfl) (by (repeat (first | exact updF_self _ _ _ _ | (apply updF_i; · decide) | (apply updF_a; · first | assumption | (apply Ne.symm; assumption) | omega) | (apply newF_a; · first | assumption | (apply Ne.symm; assumption) | omega) | exact newL_self (by rfl) | exact newF_self (by rfl) | (apply cpyF_a; · first | assumption | (apply Ne.symm; assumption) | omega))) <;> first | assumption | rfl) ?_
        refine wa_ifnonnull (pc := 177) (y := mJ4_resize) 198 dJ4_resize_177 rfl ?_
        refine wa_aloadV (pc := 198) (y := mJ4_resize) dJ4_resize_198 rfl (by first | exact rf_s _ | exact rf_n | exact rf_q _) ?_
        refine wa_instNo (pc := 200) (y := mJ4_resize) (k := 13) dJ4_resize_200 (sF_at (by assumption)) rfl q879 (by decide +kernel) ?_
        refine wa_if_eq (pc := 203) 223 dJ4_resize_203 rfl (fun hb203 => ?_) (fun hb203 => absurd rfl hb203)
        refine wa_null (pc := 223) (y := mJ4_resize) dJ4_resize_223 ?_
        refine wa_astoreV (pc := 224) (y := mJ4_resize) dJ4_resize_224 (Nat.le_of_ble_eq_true rfl) (by first | rfl | (simp [okst, rf_cat] <;> assumption)) (by first | exact rf_s _ | exact rf_n | exact rf_q _) ?_
        simp only [List.set_cons_zero, List.set_cons_succ]
        refine wa_null (pc := 226) (y := mJ4_resize) dJ4_resize_226 ?_
        refine wa_astoreV (pc := 227) (y := mJ4_resize) dJ4_resize_227 (Nat.le_of_ble_eq_true rfl) (by first | rfl | (simp [okst, rf_cat] <;> assumption)) (by first | exact rf_s _ | exact rf_n | exact rf_q _) ?_
        simp only [List.set_cons_zero, List.set_cons_succ]
        refine wa_null (pc := 229) (y := mJ4_resize) dJ4_resize_229 ?_
        refine wa_astoreV (pc := 230) (y := mJ4_resize) dJ4_resize_230 (Nat.le_of_ble_eq_true rfl) (by first | rfl | (simp [okst, rf_cat] <;> assumption)) (by first | exact rf_s _ | exact rf_n | exact rf_q _) ?_
        simp only [List.set_cons_zero, List.set_cons_succ]
        refine wa_null (pc := 232) (y := mJ4_resize) dJ4_resize_232 ?_
        refine wa_astoreV (pc := 233) (y := mJ4_resize) dJ4_resize_233 (Nat.le_of_ble_eq_true rfl) (by first | rfl | (simp [okst, rf_cat] <;> assumption)) (by first | exact rf_s _ | exact rf_n | exact rf_q _) ?_
        simp only [List.set_cons_zero, List.set_cons_succ]
        exact rz_235 (k := k) (B := B) (F0 := updF F tb j .null) (fun z hz => ⟨hIB z hz, by rw [hkB z hz, gz z 0 (hsub z hz)]; exact ((nk z hz).2.1).1, by rw [hkB z hz]; exact (nk z hz).lt⟩) hBn (ChE_congr (fun z hz => gz z 3 (hsub z hz)) hch) (fun F3 v8 v13 fr3 g1 g2 => by rw [hfc fun b => !b] at g1 ⊢; rw [hfc fun b => b] at g2 ⊢; exact FIN F3 v8 v13 fr3 g1 g2) (y :: B2) [] x _ _ (by rw [hBe, hB2]; rfl) FrP.refl ⟨none, trivial⟩ ⟨none, trivial⟩
      · have xI := tbn.is hxB
        have hfc : ∀ f : Bool → Bool, (B.filter fun z => f ((kF (updF F tb j .null) z).testBit k)) = B.filter fun z => f ((kF F z).testBit k) := fun f => List.filter_congr fun z hz => by rw [kF_congr (gz z 0 (hsub z hz))]
        refine wa_aloadV_n (pc := 157) (y := mJ4_resize) dJ4_resize_157 rfl (by first | exact rf_s _ | exact rf_n | exact rf_q _) ?_
        refine wa_iload (pc := 158) (y := mJ4_resize) dJ4_resize_158 rfl ?_
        refine wf_aaload dJ4_resize_160 (by assumption) (by first | exact Or.inl rfl | exact Or.inr rfl) (by omega) (by (repeat (first | exact updF_self _ _ _ _ | (apply updF_i; · decide) | (apply updF_a; · first | assumption | (apply Ne.symm; assumption) | omega) | (apply newF_a; · first | assumption | (apply Ne.symm; assumption) | omega) | exact newL_self (by rfl) | exact newF_self (by rfl) | (apply cpyF_a; · first | assumption | (apply Ne.symm; assumption) | omega))) <;> first | assumption | rfl) ?_
        refine wa_dup (pc := 161) (y := mJ4_resize) dJ4_resize_161 (by first | rfl | exact rf_cat _) ?_
        refine wa_astoreV (pc := 162) (y := mJ4_resize) dJ4_resize_162 (Nat.le_of_ble_eq_true rfl) (by first | rfl | (simp [okst, rf_cat] <;> assumption)) (by first | exact rf_s _ | exact rf_n | exact rf_q _) ?_
        simp only [List.set_cons_zero, List.set_cons_succ]
        refine wa_ifnull (pc := 164) (y := mJ4_resize) dJ4_resize_164 ?_
        refine wa_aloadV_n (pc := 167) (y := mJ4_resize) dJ4_resize_167 rfl (by first | exact rf_s _ | exact rf_n | exact rf_q _) ?_
        refine wa_iload (pc := 168) (y := mJ4_resize) dJ4_resize_168 rfl ?_
        refine wa_null (pc := 170) (y := mJ4_resize) dJ4_resize_170 ?_
        refine wf_aastoreN dJ4_resize_171 (by assumption) (by first | exact Or.inl rfl | exact Or.inr rfl) (by omega) ?_
        refine wa_aloadV (pc := 172) (y := mJ4_resize) dJ4_resize_172 rfl (by first | exact rf_s _ | exact rf_n | exact rf_q _) ?_
        refine wn_get 3 dJ4_resize_174 (by assumption) q1337 (Or.inl rfl) (Nat.le_of_ble_eq_true rfl) (by (repeat (first | exact updF_self _ _ _ _ | (apply updF_i; · decide) | (apply updF_a; · first | assumption | (apply Ne.symm; assumption) | omega) | (apply newF_a; · first | assumption | (apply Ne.symm; assumption) | omega) | exact newL_self (by rfl) | exact newF_self (by rfl) | (apply cpyF_a; · first | assumption | (apply Ne.symm; assumption) | omega))) <;> first | assumption | rfl) ?_
        refine wa_ifnonnull (pc := 177) (y := mJ4_resize) 198 dJ4_resize_177 rfl ?_
        refine wa_aloadV (pc := 198) (y := mJ4_resize) dJ4_resize_198 rfl (by first | exact rf_s _ | exact rf_n | exact rf_q _) ?_
        refine wa_instS (pc := 200) (y := mJ4_resize) (k := 14) dJ4_resize_200 (sF_at (by assumption)) rfl q879 ?_
        refine wa_if_eq (pc := 203) 223 dJ4_resize_203 rfl (fun hb203 => absurd hb203 (by decide)) (fun hb203 => ?_)
        refine wa_aloadV (pc := 206) (y := mJ4_resize) dJ4_resize_206 rfl (by first | exact rf_s _ | exact rf_n | exact rf_q _) ?_
        refine wa_castS (pc := 208) (y := mJ4_resize) (k := 14) dJ4_resize_208 (sF_at (by assumption)) rfl q879 ?_
        refine wa_aloadV_n (pc := 211) (y := mJ4_resize) dJ4_resize_211 rfl (by first | exact rf_s _ | exact rf_n | exact rf_q _) ?_
        refine wa_aloadV (pc := 212) (y := mJ4_resize) dJ4_resize_212 rfl (by first | exact rf_s _ | exact rf_n | exact rf_q _) ?_
        refine wa_iload (pc := 214) (y := mJ4_resize) dJ4_resize_214 rfl ?_
        refine wa_iload_n (pc := 216) (y := mJ4_resize) dJ4_resize_216 rfl ?_
        refine wa_callV (pc := 217) (s_J26_split (d := d - 1) (B := B) (k := k) (bi := j) (by omega) hG hm (lo0.congr (updF_a (Ne.symm htm) rfl) (updF_a (Ne.symm htm) rfl) (fun z hz => gz z 4 hz) (fun z hz => gz z 5 hz)) hnn hN hnt hk hj hBe hBn hsub (fun z hz => (nk z hz).ext Ext.refl (fun i _ => gz z i (hsub z hz)) (fun q i hq => updF_a (hq.ne htb (by decide)) rfl)) (fun p q hp hq e => hinj p q hp hq (by rw [← kF_congr (gz p 0 (hsub p hp)), ← kF_congr (gz q 0 (hsub q hq))]; exact e)) (fun z hz => by rw [kF_congr (gz z 0 (hsub z hz))]; exact hmod z hz) ((updF_a (Ne.symm hne) rfl).trans n0) ((updF_a (Ne.symm hne) rfl).trans n1) (tbn.congr Ext.refl (fun z hz => kF_congr (gz z 0 (hsub z hz))) (fun z i hz _ => gz z i (hsub z hz))) hlen) dJ4_resize_217 okJ26_split q1286 q1287 q1288 (sF_at (by assumption)) rfl rfl rfl (Nat.le_of_ble_eq_true rfl) (Nat.le_of_ble_eq_true rfl) (by omega) ?_
        rintro _ _ - - ⟨rfl, h2, F2, ρ, D, rfl, R, s1, s2, s3, s4, s5⟩
        refine aft_0 (pc2 := 220) ?_ rfl
        refine wa_goto (pc := 220) (y := mJ4_resize) 347 dJ4_resize_220 rfl ?_
        exact KQ h2 F2 _ _ _ _ _ _ ⟨ρ, D, (R.mono (Q2 := StP tb nt j k B) fun b i e => e.imp (fun e => e) (fun e => Or.inr e)).base StP.fr1 (fun p hp i hi e => by rcases e with e | e | e; exact hzn p (hsub p (s2 p hp)) e.1; exact hzt p (hsub p (s2 p hp)) e.1; omega), s1, s2, s3, by rw [← hfc fun b => !b]; exact s4, by rw [← hfc fun b => b]; exact s5⟩
end RZ1
