/-! ===== nodes of a list are replaced by new ones ===== -/
/-- the nodes a of the order ns have been replaced: rho leads to the new ones -/
def RepR (l : Nat) (h : AH) (F : Nat → Nat → Value) (h2 : AH) (F2 : Nat → Nat → Value) (m : Nat) (ns : List Nat) (ρ : Nat → Nat) (a : List Nat) : Prop :=
  Ext h h2 ∧ (h2.1 = h.1 + a.length ∧ h2.2.1 = h.2.1 + l * a.length) ∧ (∀ p, p ∈ a → h.1 ≤ ρ p ∧ ρ p < h2.1) ∧ (∀ p, p ∉ a → ρ p = p) ∧ (∀ p q, p ∈ a → q ∈ a → ρ p = ρ q → p = q) ∧ LO F2 m (ns.map ρ) ∧ (∀ p, p ∈ a → ∀ j, j < 3 → F2 (ρ p) j = F p j) ∧
    ∀ b j, b < h.1 → ¬ (b = m ∧ (j = 8 ∨ j = 9)) → ¬ (b ∈ ns ∧ (j = 4 ∨ j = 5)) → F2 b j = F b j
section REPL
variable {G : GG} {d n : Nat} {h h1 h2 : AH} {F F1 F2 F3 : Nat → Nat → Value} {ρ : Nat → Nat} {k l m p q x : Nat} {ns a b c e : List Nat}
theorem RepR.refl (lo : LO F m ns) : RepR l h F h F m ns (fun z => z) [] :=
  ⟨Ext.refl, ⟨rfl, rfl⟩, fun _ h => (by cases h), fun _ _ => rfl, fun _ _ h => (by cases h), (by simpa using lo), fun _ h => (by cases h), fun _ _ _ _ _ => rfl⟩
theorem RepR.nodup (r : RepR l h F h1 F1 m ns ρ a) (hn : ns.Nodup) (hlt : ∀ z, z ∈ ns → z < h.1) : (ns.map ρ).Nodup := by
  obtain ⟨-, -, r3, r4, r5, -⟩ := r
  rw [List.nodup_iff_pairwise_ne, List.pairwise_map]
  refine List.Pairwise.imp_of_mem (fun {x y} hx hy hxy => ?_) (List.nodup_iff_pairwise_ne.mp hn)
  intro e9
  have := hlt x hx
  have := hlt y hy
  by_cases hxa : x ∈ a
  · by_cases hya : y ∈ a
    · exact hxy (r5 x y hxa hya e9)
    · have := r3 x hxa
      rw [r4 y hya] at e9
      omega
  · rw [r4 x hxa] at e9
    by_cases hya : y ∈ a
    · have := r3 y hya
      omega
    · rw [r4 y hya] at e9
      exact hxy e9
theorem upo_map {v : Nat} : ∀ {c : List Nat}, q ∉ c → c.map (upo ρ q v) = c.map ρ
  | [], _ => rfl
  | z :: c, h => by
    have h2 : z ≠ q ∧ q ∉ c := ⟨fun e => h (by simp [e]), fun e => h (by simp [e])⟩
    rw [List.map_cons, List.map_cons, upo_map h2.2, show upo ρ q v z = ρ z from if_neg h2.1]
theorem RepR.step {hs : Int32} {kk vv : Nat} {r : RR} {h' : AH} (R : RepR l h F h1 F1 m ns ρ a) (hqa : q ∉ a) (hq : q < h.1) (hns : ns = c ++ q :: e) (hn : ns.Nodup) (hlt : ∀ z, z ∈ ns → z < h.1) (hm : m < h.1) (N : NewQ k l h1 F1 m (ns.map ρ) (c.map ρ ++ h1.1 :: e.map ρ) hs kk vv none r h') (e0 : F q 0 = .int hs) (e1 : F q 1 = .ref kk) (e2 : F q 2 = .ref vv) :
    r = .inl (some (.ref h1.1)) ∧ ∃ F2, h' = sF (hNew h1 k l) F2 ∧ RepR l h F (hNew h1 k l) F2 m ns (upo ρ q h1.1) (a ++ [q]) ∧ F2 h1.1 3 = .null ∧ (k = 14 → F2 h1.1 6 = .null ∧ F2 h1.1 7 = .null ∧ F2 h1.1 8 = .null ∧ F2 h1.1 9 = .null ∧ F2 h1.1 10 = .int 0) ∧ ∀ z j, z ∈ a → j ≠ 4 ∧ j ≠ 5 → F2 (ρ z) j = F1 (ρ z) j := by
  obtain ⟨n1, F2, n2, n3, n4, n5, n6, n7, n8, n9⟩ := N
  obtain ⟨r1, r2, r3, r4, r5, r6, r7, r8⟩ := R
  have hle := r1.1
  have hnew : ∀ p, p ∈ a ++ [q] → p ∈ a ∧ p ≠ q ∨ p = q := fun p hp => by
    rcases List.mem_append.mp hp with hp | hp
    · exact Or.inl ⟨hp, fun e => hqa (e ▸ hp)⟩
    · exact Or.inr (by simpa using hp)
  have hu : ∀ p, p ≠ q → upo ρ q h1.1 p = ρ p := fun p hp => if_neg hp
  have huq : upo ρ q h1.1 q = h1.1 := if_pos rfl
  have hz : ∀ z j, z ∈ a → j ≠ 4 ∧ j ≠ 5 → F2 (ρ z) j = F1 (ρ z) j := fun z j hz hj => n9 _ _ (by have := r3 z hz; omega) (fun e => by have := r3 z hz; omega) (fun e => by omega)
  refine ⟨n1, F2, n2, ⟨r1.trans Ext.new, ⟨?_, ?_⟩, fun p hp => ?_, fun p hp => ?_, fun p q2 hp hq2 e => ?_, ?_, fun p hp j hj => ?_, fun b j hb h8 h4 => ?_⟩, n7, n8, hz⟩
  · rw [hNew_1, r2.1, List.length_append]; rfl
  · rw [hNew_2, r2.2, List.length_append, Nat.mul_add]; simp; omega
  · rw [hNew_1]
    rcases hnew p hp with ⟨hp, h9⟩ | rfl
    · rw [hu p h9]; have := r3 p hp; omega
    · rw [huq]; omega
  · have h9 : p ≠ q ∧ p ∉ a := ⟨fun e => hp (by simp [e]), fun e => hp (by simp [e])⟩
    rw [hu p h9.1, r4 p h9.2]
  · rcases hnew p hp with ⟨hp2, h9⟩ | h9
    · rcases hnew q2 hq2 with ⟨hq3, h8⟩ | h8
      · rw [hu p h9, hu q2 h8] at e
        exact r5 _ _ hp2 hq3 e
      · rw [hu p h9, h8, huq] at e
        have := r3 p hp2
        omega
    · rcases hnew q2 hq2 with ⟨hq3, h8⟩ | h8
      · rw [hu q2 h8, h9, huq] at e
        have := r3 q2 hq3
        omega
      · rw [h8, h9]
  · have hc : q ∉ c ∧ q ∉ e := by rw [hns] at hn; grind [List.nodup_append]
    rw [hns, List.map_append, List.map_cons, upo_map hc.1, upo_map hc.2, huq]
    exact n3
  · rcases hnew p hp with ⟨hp, h9⟩ | rfl
    · rw [hu p h9, hz p j hp (by omega)]
      exact r7 p hp j hj
    · rw [huq]
      match j, hj with
      | 0, _ => rw [n4, e0]
      | 1, _ => rw [n5, e1]
      | 2, _ => rw [n6, e2]
  · rw [n9 b j (by omega) h8 ?_]
    · exact r8 b j hb h8 h4
    · rintro ⟨h5, h6⟩
      obtain ⟨w, hw, rfl⟩ := List.mem_map.mp h5
      by_cases hwa : w ∈ a
      · have := r3 w hwa; omega
      · rw [r4 w hwa] at h4
        exact h4 ⟨hw, h6⟩
theorem RepR.upd {z j : Nat} {v : Value} (R : RepR l h F h1 F1 m ns ρ a) (hz : h.1 ≤ z) (hm : m < h.1) (hj : 2 < j ∧ j ≠ 4 ∧ j ≠ 5) : RepR l h F h1 (updF F1 z j v) m ns ρ a := by
  obtain ⟨r1, r2, r3, r4, r5, r6, r7, r8⟩ := R
  exact ⟨r1, r2, r3, r4, r5, r6.congr (updF_a (by omega) rfl) (updF_a (by omega) rfl) (fun w _ => updF_i (by omega) rfl) (fun w _ => updF_i (by omega) rfl), fun p hp i hi => updF_i (by omega) (r7 p hp i hi), fun b i hb h8 h4 => (updF_a (by omega) rfl).trans (r8 b i hb h8 h4)⟩
/-- a new link at the end of a chain -/
theorem ChE_snoc {i z : Nat} {A : List Nat} (hn : (A ++ [z]).Nodup) (c1 : ChE F i A none) (hz : F z i = .null) : ChE F i (A ++ [z]) none ∨ A ≠ [] := by
  cases A with
  | nil => exact Or.inl ⟨hz, trivial⟩
  | cons a A => exact Or.inr (by simp)
theorem ChE_ext {i z w : Nat} {A : List Nat} (hn : (A ++ [z]).Nodup) (c1 : ChE F i A none) (hz : F z i = .null) (hw : A.getLast? = some w) : ChE (updF F w i (.ref z)) i (A ++ [z]) none := by
  have hwA := getLast_mem hw
  have hwz : z ≠ w := by grind [List.nodup_append]
  rw [ChE_app]
  refine ⟨ChE_last (F := F) (e := none) (List.nodup_append.mp hn).1 (fun q hq => ?_) c1, ?_, trivial⟩
  · rw [hw]
    by_cases e : w = q
    · subst e
      rw [if_pos rfl, updF_self]
      rfl
    · rw [if_neg (by simpa using e)]
      exact updF_a (fun e2 => e e2.symm) rfl
  · exact updF_a hwz hz
theorem s_J26_untreeify {hd0 : Nat} {tl0 B : List Nat} (hd : 4 ≤ d) (hB : B = hd0 :: tl0) (hm : Is h m 12 12) (lo : LO F m ns) (hn : ns.Nodup) (hN : ∀ z, z ∈ ns → Nd h z) (hBn : B.Nodup) (hsub : ∀ z, z ∈ B → z ∈ ns) (hv : ∀ z, z ∈ B → ∃ (s : Int32) (k v : Nat), F z 0 = .int s ∧ F z 1 = .ref k ∧ F z 2 = .ref v) (hc : ChE F 3 B none) :
    MA G d mJ26_untreeify [.ref hd0, .ref m] (sF h F) (fun r h' => ∃ (h2 : AH) (F2 : Nat → Nat → Value) (ρ : Nat → Nat), r = .inl (some (va_rf (B.map ρ).head?)) ∧ h' = sF h2 F2 ∧ RepR 6 h F h2 F2 m ns ρ B ∧ ChE F2 3 (B.map ρ) none ∧ ∀ p, p ∈ B → Is h2 (ρ p) 13 6) := by
  have hlt : ∀ z, z ∈ ns → z < h.1 := fun z hz => (hN z hz).lt
  have hmlt := hm.lt
  have hnm : ∀ z, z ∈ ns → z ≠ m := fun z hz => (hN z hz).ne hm (by decide) (by decide)
  have loop : ∀ (rest a : List Nat) (h1 : AH) (F1 : Nat → Nat → Value) (ρ : Nat → Nat) (v5 : Value), a ++ rest = B → RepR 6 h F h1 F1 m ns ρ a → ChE F1 3 (a.map ρ) none → (∀ p, p ∈ a → Is h1 (ρ p) 13 6) →
      WA G d mJ26_untreeify 7 [.ref hd0, .ref m, va_rf (a.map ρ).head?, va_rf (a.map ρ).getLast?, va_rf rest.head?, v5] [] (sF h1 F1) (fun r h' => ∃ (h2 : AH) (F2 : Nat → Nat → Value) (ρ : Nat → Nat), r = .inl (some (va_rf (B.map ρ).head?)) ∧ h' = sF h2 F2 ∧ RepR 6 h F h2 F2 m ns ρ B ∧ ChE F2 3 (B.map ρ) none ∧ ∀ p, p ∈ B → Is h2 (ρ p) 13 6) := by
    intro rest
    induction rest with
    | nil =>
      intro a h1 F1 ρ v5 ha R c1 k1
      rw [List.append_nil] at ha
      subst ha
      refine wa_aloadV (pc := 7) (y := mJ26_untreeify) dJ26_untreeify_7 rfl (by first | exact rf_s _ | exact rf_n | exact rf_q _) ?_
      refine wa_ifnullN (pc := 9) (y := mJ26_untreeify) 50 dJ26_untreeify_9 rfl ?_
      refine wa_aloadV_n (pc := 50) (y := mJ26_untreeify) dJ26_untreeify_50 rfl (by first | exact rf_s _ | exact rf_n | exact rf_q _) ?_
      refine wa_areturnV (pc := 51) (y := mJ26_untreeify) (.object "java/util/HashMap$Node") dJ26_untreeify_51 rfl (Or.inl ⟨_, rfl⟩) (by first | exact rf_s _ | exact rf_n | exact rf_q _) ⟨h1, F1, ρ, rfl, rfl, R, c1, k1⟩
    | cons q rest ih =>
      intro a h1 F1 ρ v5 ha R c1 k1
      have hqB : q ∈ B := by rw [← ha]; simp
      have hqa : q ∉ a := by rw [← ha] at hBn; grind [List.nodup_append]
      have hqn := hsub q hqB
      obtain ⟨c, e, hns⟩ := List.append_of_mem hqn
      obtain ⟨s, kk, vv, v0, v1, v2⟩ := hv q hqB
      have R9 := R
      obtain ⟨r1, r2, r3, r4, r5, r6, r7, r8⟩ := R
      have hce : q ∉ c ∧ q ∉ e := by rw [hns] at hn; grind [List.nodup_append]
      have hmap : ns.map ρ = c.map ρ ++ q :: e.map ρ := by rw [hns, List.map_append, List.map_cons, r4 q hqa]
      have lo1 : LO F1 m (c.map ρ ++ q :: e.map ρ) := hmap ▸ r6
      have hn1 := R9.nodup hn hlt
      have fq : ∀ j, j ≠ 4 ∧ j ≠ 5 → F1 q j = F q j := fun j hj => r8 q j (hlt q hqn) (fun x => hnm q hqn x.1) (fun x => by omega)
      have hN1 : ∀ z, z ∈ c.map ρ ++ q :: e.map ρ → Nd h1 z := fun z hz => by
        rw [← hmap] at hz
        obtain ⟨w, hw, rfl⟩ := List.mem_map.mp hz
        by_cases hwa : w ∈ a
        · exact Or.inl (k1 w hwa)
        · rw [r4 w hwa]; exact (hN w hw).ext r1
      have hm1 := hm.ext r1
      have h3q : F1 q 3 = va_rf rest.head? := (fq 3 (by decide)).trans (by rw [← ha] at hc; rw [ChE.mem hc, or_none_])
      have hNq : Nd h1 q := hN1 q (by simp)
      have ha2 : (a ++ [q]) ++ rest = B := by rw [← ha]; simp
      have hlast : (a.map ρ).getLast? = none ∧ a = [] ∨ ∃ w, (a.map ρ).getLast? = some w ∧ Is h1 w 13 6 ∧ h.1 ≤ w ∧ w < h1.1 := by
        cases e9 : (a.map ρ).getLast? with
        | none => exact Or.inl ⟨rfl, by simpa using getLast_none e9⟩
        | some w =>
          obtain ⟨u, hu, rfl⟩ := List.mem_map.mp (getLast_mem e9)
          exact Or.inr ⟨_, rfl, k1 u hu, r3 u hu⟩
      have hmap2 : (a ++ [q]).map (upo ρ q h1.1) = a.map ρ ++ [h1.1] := by
        rw [List.map_append, upo_map hqa]
        simp [upo]
      have hkin : ∀ p, p ∈ a ++ [q] → Is (hNew h1 13 6) (upo ρ q h1.1 p) 13 6 := fun p hp => by
        by_cases e : p = q
        · rw [e, show upo ρ q h1.1 q = h1.1 from if_pos rfl]; exact Is.self
        · rw [show upo ρ q h1.1 p = ρ p from if_neg e]
          exact (k1 p ((List.mem_append.mp hp).resolve_right (fun h => e (by simpa using h)))).new
      have hnd : (a.map ρ ++ [h1.1]).Nodup := by
        have h9 := R9.nodup hn hlt
        refine List.nodup_append.mpr ⟨?_, by simp, fun z hz w hw => ?_⟩
        · rw [List.nodup_iff_pairwise_ne, List.pairwise_map]
          refine List.Pairwise.imp_of_mem (fun {x y} hx hy hxy e => hxy (r5 x y hx hy e)) (List.nodup_iff_pairwise_ne.mp ?_)
          rw [← ha] at hBn
          exact (List.nodup_append.mp hBn).1
        · obtain ⟨u, hu, rfl⟩ := List.mem_map.mp hz
          have := r3 u hu
          simp at hw
          omega
      have hcz : ∀ F2 : Nat → Nat → Value, (∀ z j, z ∈ a → j ≠ 4 ∧ j ≠ 5 → F2 (ρ z) j = F1 (ρ z) j) → ChE F2 3 (a.map ρ) none := fun F2 gz => ChE_congr (fun z hz => by obtain ⟨u, hu, rfl⟩ := List.mem_map.mp hz; exact gz u 3 hu (by decide)) c1
      rcases hlast with ⟨e9, ea⟩ | ⟨w, e9, hw, hwl, hwu⟩
      · rw [e9]
        refine wa_aloadV (pc := 7) (y := mJ26_untreeify) dJ26_untreeify_7 rfl (by first | exact rf_s _ | exact rf_n | exact rf_q _) ?_
        refine wa_ifnull (pc := 9) (y := mJ26_untreeify) dJ26_untreeify_9 ?_
        refine wa_aloadV_n (pc := 12) (y := mJ26_untreeify) dJ26_untreeify_12 rfl (by first | exact rf_s _ | exact rf_n | exact rf_q _) ?_
        refine wa_aloadV (pc := 13) (y := mJ26_untreeify) dJ26_untreeify_13 rfl (by first | exact rf_s _ | exact rf_n | exact rf_q _) ?_
        refine wa_null (pc := 15) (y := mJ26_untreeify) dJ26_untreeify_15 ?_
        refine wa_callW (k := 12) (pc := 16) (owner := "java/util/HashMap") (s_J5_replacementNode (d := d - 1) (by omega) hm1 lo1 (hmap ▸ hn1) hN1 ((fq 0 (by decide)).trans v0) ((fq 1 (by decide)).trans v1) ((fq 2 (by decide)).trans v2)) dJ26_untreeify_16 okJ5_replacementNode rfl q1295 q1297 (hDc_decl q1356) (by decide) q1298 q1299 (sF_at (by assumption)) rfl rfl rfl rfl (Nat.le_of_ble_eq_true rfl) (Nat.le_of_ble_eq_true rfl) (by omega) ?_
        rintro _ _ - - N9
        rw [← hmap] at N9
        obtain ⟨rfl, F2, rfl, R2, g3, -, gz⟩ := R9.step hqa (hlt q hqn) hns hn hlt hmlt N9 v0 v1 v2
        refine aft_v (pc2 := 19) ?_ rfl
        have h3 : F2 q 3 = va_rf rest.head? := (R2.2.2.2.2.2.2.2 q 3 (hlt q hqn) (fun x => hnm q hqn x.1) (fun x => by omega)).trans ((fq 3 (by decide)).symm.trans h3q)
        have hNq2 : Nd (hNew h1 13 6) q := hNq.new
        have hself : Is (hNew h1 13 6) h1.1 13 6 := Is.self
        refine wa_astoreV (pc := 19) (y := mJ26_untreeify) dJ26_untreeify_19 (Nat.le_of_ble_eq_true rfl) (by first | rfl | (simp [okst, rf_cat] <;> assumption)) (by first | exact rf_s _ | exact rf_n | exact rf_q _) ?_
        simp only [List.set_cons_zero, List.set_cons_succ]
        refine wa_aloadV_n (pc := 21) (y := mJ26_untreeify) dJ26_untreeify_21 rfl (by first | exact rf_s _ | exact rf_n | exact rf_q _) ?_
        refine wa_ifnonnullN (pc := 22) (y := mJ26_untreeify) dJ26_untreeify_22 ?_
        refine wa_aloadV (pc := 25) (y := mJ26_untreeify) dJ26_untreeify_25 rfl (by first | exact rf_s _ | exact rf_n | exact rf_q _) ?_
        refine wa_astoreV_n (pc := 27) (y := mJ26_untreeify) dJ26_untreeify_27 (Nat.le_of_ble_eq_true rfl) (by first | rfl | (simp [okst, rf_cat] <;> assumption)) (by first | exact rf_s _ | exact rf_n | exact rf_q _) ?_
        change WA _ _ _ _ (List.set _ 2 _) _ _ _
        simp only [List.set_cons_zero, List.set_cons_succ]
        refine wa_goto (pc := 28) (y := mJ26_untreeify) 37 dJ26_untreeify_28 rfl ?_
        refine wa_aloadV (pc := 37) (y := mJ26_untreeify) dJ26_untreeify_37 rfl (by first | exact rf_s _ | exact rf_n | exact rf_q _) ?_
        refine wa_astoreV_n (pc := 39) (y := mJ26_untreeify) dJ26_untreeify_39 (Nat.le_of_ble_eq_true rfl) (by first | rfl | (simp [okst, rf_cat] <;> assumption)) (by first | exact rf_s _ | exact rf_n | exact rf_q _) ?_
        change WA _ _ _ _ (List.set _ 3 _) _ _ _
        simp only [List.set_cons_zero, List.set_cons_succ]
        refine wa_aloadV (pc := 40) (y := mJ26_untreeify) dJ26_untreeify_40 rfl (by first | exact rf_s _ | exact rf_n | exact rf_q _) ?_
        refine wn_get 3 dJ26_untreeify_42 (by assumption) q1336 (Or.inl rfl) (Nat.le_of_ble_eq_true rfl) (by (repeat (first | exact updF_self _ _ _ _ | (apply updF_i; · decide) | (apply updF_a; · first | assumption | (apply Ne.symm; assumption) | omega) | (apply newF_a; · first | assumption | (apply Ne.symm; assumption) | omega) | exact newL_self (by rfl) | exact newF_self (by rfl) | (apply cpyF_a; · first | assumption | (apply Ne.symm; assumption) | omega))) <;> first | assumption | rfl) ?_
        refine wa_astoreV (pc := 45) (y := mJ26_untreeify) dJ26_untreeify_45 (Nat.le_of_ble_eq_true rfl) (by first | rfl | (simp [okst, rf_cat] <;> assumption)) (by first | exact rf_s _ | exact rf_n | exact rf_q _) ?_
        simp only [List.set_cons_zero, List.set_cons_succ]
        refine wa_goto (pc := 47) (y := mJ26_untreeify) 7 dJ26_untreeify_47 rfl ?_
        (have K := ih (a ++ [q]) _ F2 _ (.ref h1.1) ha2 R2 (by rw [hmap2, ea]; exact ⟨g3, trivial⟩) hkin; rw [hmap2, ea] at K; exact K)
      · rw [e9]
        refine wa_aloadV (pc := 7) (y := mJ26_untreeify) dJ26_untreeify_7 rfl (by first | exact rf_s _ | exact rf_n | exact rf_q _) ?_
        refine wa_ifnull (pc := 9) (y := mJ26_untreeify) dJ26_untreeify_9 ?_
        refine wa_aloadV_n (pc := 12) (y := mJ26_untreeify) dJ26_untreeify_12 rfl (by first | exact rf_s _ | exact rf_n | exact rf_q _) ?_
        refine wa_aloadV (pc := 13) (y := mJ26_untreeify) dJ26_untreeify_13 rfl (by first | exact rf_s _ | exact rf_n | exact rf_q _) ?_
        refine wa_null (pc := 15) (y := mJ26_untreeify) dJ26_untreeify_15 ?_
        refine wa_callW (k := 12) (pc := 16) (owner := "java/util/HashMap") (s_J5_replacementNode (d := d - 1) (by omega) hm1 lo1 (hmap ▸ hn1) hN1 ((fq 0 (by decide)).trans v0) ((fq 1 (by decide)).trans v1) ((fq 2 (by decide)).trans v2)) dJ26_untreeify_16 okJ5_replacementNode rfl q1295 q1297 (hDc_decl q1356) (by decide) q1298 q1299 (sF_at (by assumption)) rfl rfl rfl rfl (Nat.le_of_ble_eq_true rfl) (Nat.le_of_ble_eq_true rfl) (by omega) ?_
        rintro _ _ - - N9
        rw [← hmap] at N9
        obtain ⟨rfl, F2, rfl, R2, g3, -, gz⟩ := R9.step hqa (hlt q hqn) hns hn hlt hmlt N9 v0 v1 v2
        refine aft_v (pc2 := 19) ?_ rfl
        have h3 : F2 q 3 = va_rf rest.head? := (R2.2.2.2.2.2.2.2 q 3 (hlt q hqn) (fun x => hnm q hqn x.1) (fun x => by omega)).trans ((fq 3 (by decide)).symm.trans h3q)
        have hNq2 : Nd (hNew h1 13 6) q := hNq.new
        have hself : Is (hNew h1 13 6) h1.1 13 6 := Is.self
        have hw2 : Nd (hNew h1 13 6) w := Or.inl hw.new
        have hwq : q ≠ w := by have := hlt q hqn; omega
        refine wa_astoreV (pc := 19) (y := mJ26_untreeify) dJ26_untreeify_19 (Nat.le_of_ble_eq_true rfl) (by first | rfl | (simp [okst, rf_cat] <;> assumption)) (by first | exact rf_s _ | exact rf_n | exact rf_q _) ?_
        simp only [List.set_cons_zero, List.set_cons_succ]
        refine wa_aloadV_n (pc := 21) (y := mJ26_untreeify) dJ26_untreeify_21 rfl (by first | exact rf_s _ | exact rf_n | exact rf_q _) ?_
        refine wa_ifnonnull (pc := 22) (y := mJ26_untreeify) 31 dJ26_untreeify_22 rfl ?_
        refine wa_aloadV_n (pc := 31) (y := mJ26_untreeify) dJ26_untreeify_31 rfl (by first | exact rf_s _ | exact rf_n | exact rf_q _) ?_
        refine wa_aloadV (pc := 32) (y := mJ26_untreeify) dJ26_untreeify_32 rfl (by first | exact rf_s _ | exact rf_n | exact rf_q _) ?_
        refine wn_put 3 (.object "java/util/HashMap$Node") dJ26_untreeify_34 (by assumption) q1336 (Or.inl rfl) (Nat.le_of_ble_eq_true rfl) rfl (by decide +kernel) (by first | rfl | exact rf_nar _ | exact rf_nar2 _) (by first | rfl | exact rf_fit _ | exact rf_fit2 _) ?_
        refine wa_aloadV (pc := 37) (y := mJ26_untreeify) dJ26_untreeify_37 rfl (by first | exact rf_s _ | exact rf_n | exact rf_q _) ?_
        refine wa_astoreV_n (pc := 39) (y := mJ26_untreeify) dJ26_untreeify_39 (Nat.le_of_ble_eq_true rfl) (by first | rfl | (simp [okst, rf_cat] <;> assumption)) (by first | exact rf_s _ | exact rf_n | exact rf_q _) ?_
        change WA _ _ _ _ (List.set _ 3 _) _ _ _
        simp only [List.set_cons_zero, List.set_cons_succ]
        refine wa_aloadV (pc := 40) (y := mJ26_untreeify) dJ26_untreeify_40 rfl (by first | exact rf_s _ | exact rf_n | exact rf_q _) ?_
        refine wn_get 3 dJ26_untreeify_42 (by assumption) q1336 (Or.inl rfl) (Nat.le_of_ble_eq_true rfl) (by (repeat (first | exact updF_self _ _ _ _ | (apply updF_i; · decide) | (apply updF_a; · first | assumption | (apply Ne.symm; assumption) | omega) | (apply newF_a; · first | assumption | (apply Ne.symm; assumption) | omega) | exact newL_self (by rfl) | exact newF_self (by rfl) | (apply cpyF_a; · first | assumption | (apply Ne.symm; assumption) | omega))) <;> first | assumption | rfl) ?_
        refine wa_astoreV (pc := 45) (y := mJ26_untreeify) dJ26_untreeify_45 (Nat.le_of_ble_eq_true rfl) (by first | rfl | (simp [okst, rf_cat] <;> assumption)) (by first | exact rf_s _ | exact rf_n | exact rf_q _) ?_
        simp only [List.set_cons_zero, List.set_cons_succ]
        refine wa_goto (pc := 47) (y := mJ26_untreeify) 7 dJ26_untreeify_47 rfl ?_
        (have K := ih (a ++ [q]) _ _ _ (.ref h1.1) ha2 (R2.upd (z := w) (j := 3) (v := .ref h1.1) hwl hmlt (by decide)) (by rw [hmap2]; exact ChE_ext hnd (hcz F2 gz) g3 e9) hkin; rw [hmap2, List.head?_append, show (a.map ρ ++ [h1.1]).getLast? = some h1.1 from by simp] at K; have e8 : (a.map ρ).head?.or ([h1.1] : List Nat).head? = (a.map ρ).head? := (by cases a <;> simp at e9 ⊢); rw [e8] at K; exact K)
  change WA G d mJ26_untreeify 0 [.ref hd0, .ref m, .retAddr 0, .retAddr 0, .retAddr 0, .retAddr 0] [] _ _
  have h0 : B.head? = some hd0 := by rw [hB]; rfl
  refine wa_null (pc := 0) (y := mJ26_untreeify) dJ26_untreeify_0 ?_
  refine wa_astoreV_n (pc := 1) (y := mJ26_untreeify) dJ26_untreeify_1 (Nat.le_of_ble_eq_true rfl) (by first | rfl | (simp [okst, rf_cat] <;> assumption)) (by first | exact rf_s _ | exact rf_n | exact rf_q _) ?_
  change WA _ _ _ _ (List.set _ 2 _) _ _ _
  simp only [List.set_cons_zero, List.set_cons_succ]
  refine wa_null (pc := 2) (y := mJ26_untreeify) dJ26_untreeify_2 ?_
  refine wa_astoreV_n (pc := 3) (y := mJ26_untreeify) dJ26_untreeify_3 (Nat.le_of_ble_eq_true rfl) (by first | rfl | (simp [okst, rf_cat] <;> assumption)) (by first | exact rf_s _ | exact rf_n | exact rf_q _) ?_
  change WA _ _ _ _ (List.set _ 3 _) _ _ _
  simp only [List.set_cons_zero, List.set_cons_succ]
  refine wa_aloadV_n (pc := 4) (y := mJ26_untreeify) dJ26_untreeify_4 rfl (by first | exact rf_s _ | exact rf_n | exact rf_q _) ?_
  refine wa_astoreV (pc := 5) (y := mJ26_untreeify) dJ26_untreeify_5 (Nat.le_of_ble_eq_true rfl) (by first | rfl | (simp [okst, rf_cat] <;> assumption)) (by first | exact rf_s _ | exact rf_n | exact rf_q _) ?_
  simp only [List.set_cons_zero, List.set_cons_succ]
  (have K := loop B [] h F _ (.retAddr 0) rfl (RepR.refl lo) trivial (fun _ hp => by cases hp); rw [h0] at K; exact K)
end REPL
