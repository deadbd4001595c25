/-! ===== resize: the loop over the bins ===== -/
theorem nodup_len : ∀ {a b : List Nat}, a.Nodup → (∀ z, z ∈ a → z ∈ b) → a.length ≤ b.length
  | [], _, _, _ => Nat.zero_le _
  | x :: a, b, hn, hs => by
    have h1 := List.nodup_cons.mp hn
    obtain ⟨s, t, rfl⟩ := List.append_of_mem (hs x List.mem_cons_self)
    have := nodup_len (a := a) (b := s ++ t) h1.2 fun z hz => by
      have h2 := hs z (List.mem_cons_of_mem _ hz)
      have h3 : z ≠ x := fun e => h1.1 (e ▸ hz)
      simp only [List.mem_append, List.mem_cons] at h2 ⊢
      grind
    simp only [List.length_append, List.length_cons] at this ⊢
    omega
section RZ2
variable {G : GG} {d n : Nat} {h h1 h2 h3 : AH} {F F1 F2 F3 : Nat → Nat → Value} {ρ ρ1 : Nat → Nat} {m p q x k tb nt i j : Nat} {ns a b A : List Nat} {B : Nat → List Nat}
def RzP (tb nt j k : Nat) (B : Nat → List Nat) : Nat → Nat → Prop := fun z i => z = nt ∧ (∃ b, b < j ∧ (i = b ∨ i = b + 2 ^ k)) ∨ z = tb ∧ i < j ∨ (∃ b, b < j ∧ z ∈ B b) ∧ (i = 3 ∨ i = 6 ∨ i = 7 ∨ i = 8 ∨ i = 9 ∨ i = 10)
/-- the bins below j have been split -/
def RzI (tb nt j k : Nat) (B : Nat → List Nat) (h : AH) (F : Nat → Nat → Value) (m : Nat) (ns : List Nat) (h2 : AH) (F2 : Nat → Nat → Value) : Prop :=
  ∃ (ρ : Nat → Nat) (D : List Nat), RepQ (RzP tb nt j k B) 6 h F h2 F2 m ns ρ D ∧ D.Nodup ∧ (∀ z, z ∈ D → ∃ b, b < j ∧ z ∈ B b) ∧ (∀ z, z ∈ D → Is h2 (ρ z) 13 6) ∧
    ∀ b, b < j → HalfR h2 F2 nt b ((B b).filter fun z => !(kF F z).testBit k) ρ ∧ HalfR h2 F2 nt (b + 2 ^ k) ((B b).filter fun z => (kF F z).testBit k) ρ
/-- what holds ahead of the loop -/
def RzC (tb nt k : Nat) (B : Nat → List Nat) (h : AH) (F : Nat → Nat → Value) (m : Nat) (ns : List Nat) : Prop :=
  Is h m 12 12 ∧ LO F m ns ∧ ns.Nodup ∧ (∀ z, z ∈ ns → NodeR h F z) ∧ (∀ p q, p ∈ ns → q ∈ ns → kF F p = kF F q → p = q) ∧ TabR h F tb k ns B ∧ Is h nt 36 (2 ^ (k + 1)) ∧ tb ≠ nt ∧ k < 15 ∧ (∀ i, i < 2 ^ (k + 1) → F nt i = .null) ∧ ns.length < 1000
theorem rz_step {v3 v5 v8 v9 v10 v11 v12 v13 : Value} {Q : RR → AH → Prop} (hd : 6 ≤ d) (hG : StG G) (C : RzC tb nt k B h F m ns) (hj : j < 2 ^ k) (I : RzI tb nt j k B h F m ns h2 F2)
    (KQ : ∀ (h3 : AH) (F3 : Nat → Nat → Value) (v8 v9 v10 v11 v12 v13 : Value), RzI tb nt (j + 1) k B h F m ns h3 F3 → WA G d mJ4_resize 347 [.ref m, .ref tb, .int (Int32.ofNat (2 ^ k)), v3, .int (Int32.ofNat (2 ^ (k + 1))), v5, .ref nt, .int (Int32.ofNat j), v8, v9, v10, v11, v12, v13] [] (sF h3 F3) Q) :
    WA G d mJ4_resize 157 [.ref m, .ref tb, .int (Int32.ofNat (2 ^ k)), v3, .int (Int32.ofNat (2 ^ (k + 1))), v5, .ref nt, .int (Int32.ofNat j), v8, v9, v10, v11, v12, v13] [] (sF h2 F2) Q := by
  obtain ⟨hm, lo0, hnn, nk, hinj, ⟨htb, tB⟩, hnt, hne, hk, hnul, hlen⟩ := C
  obtain ⟨ρ, D, R, Dn, Db, Dk, H⟩ := I
  have hk0 : 0 < 2 ^ k := Nat.two_pow_pos k
  have hkk : 2 ^ (k + 1) = 2 ^ k + 2 ^ k := by rw [Nat.pow_succ]; omega
  have hN : ∀ z, z ∈ ns → Nd h z := fun z hz => (nk z hz).1
  have htm : tb ≠ m := htb.ne hm (by decide)
  have hnm : nt ≠ m := hnt.ne hm (by decide)
  have hzt : ∀ z, z ∈ ns → z ≠ tb := fun z hz => (hN z hz).ne htb (by decide) (by decide)
  have hzn : ∀ z, z ∈ ns → z ≠ nt := fun z hz => (hN z hz).ne hnt (by decide) (by decide)
  have hzm : ∀ z, z ∈ ns → z ≠ m := fun z hz => (hN z hz).ne hm (by decide) (by decide)
  have hlt : ∀ z, z ∈ ns → z < h.1 := fun z hz => (hN z hz).lt
  have hmem : ∀ b z, b < 2 ^ k → z ∈ B b → z ∈ ns ∧ kF F z % 2 ^ k = b := fun b z hb hz => ((tB b hb).2.2.2 z).mp hz
  have hdis : ∀ b z, b < j → z ∈ B j → z ∉ B b := fun b z hb hz h9 => by have h1 := (hmem b z (by omega) h9).2; have h2 := (hmem j z hj hz).2; omega
  have hDj : ∀ z, z ∈ B j → z ∉ D := fun z hz h9 => by obtain ⟨b, hb, h8⟩ := Db z h9; exact hdis b z hb hz h8
  have hDns : ∀ z, z ∈ D → z ∈ ns := fun z hz => by obtain ⟨b, hb, h8⟩ := Db z hz; exact (hmem b z (by omega) h8).1
  have R9 := R
  obtain ⟨r1, r2, r3, r4, r5, r6, r7, r8⟩ := R9
  have hle := r1.1
  have ρj : ∀ z, z ∈ B j → ρ z = z := fun z hz => r4 z (hDj z hz)
  have ρns : ∀ z, z ∈ ns → ρ z ≠ tb ∧ ρ z ≠ nt ∧ ρ z ≠ m ∧ ρ z < h2.1 := fun z hz => by
    by_cases hzD : z ∈ D
    · have := r3 z hzD; have := htb.lt; have := hm.lt; have := hnt.lt; omega
    · rw [r4 z hzD]; exact ⟨hzt z hz, hzn z hz, hzm z hz, by have := hlt z hz; omega⟩
  have ρb : ∀ b z, b < j → z ∈ B b → ρ z ∉ B j := fun b z hb hz h9 => by
    by_cases hzD : z ∈ D
    · have := (r3 z hzD).1; have := hlt _ (hmem j _ hj h9).1; omega
    · rw [r4 z hzD] at h9; exact hdis b z hb h9 hz
  have g1 : ∀ z i, z ∈ B j → i ≠ 4 ∧ i ≠ 5 → F2 z i = F z i := fun z i hz hi => by
    have h9 := (hmem j z hj hz).1
    exact r8 z i (hlt z h9) (fun e => by rcases e with e | e | e; exact hzn z h9 e.1; exact hzt z h9 e.1; obtain ⟨⟨b, hb, e⟩, -⟩ := e; exact hdis b z hb hz e) (fun e => hzm z h9 e.1) (fun e => by omega)
  have g2 : ∀ q i, Is h q 4 2 → F2 q i = F q i := fun q i hq => r8 q i hq.lt (fun e => by rcases e with e | e | e; exact hq.ne hnt (by decide) e.1; exact hq.ne htb (by decide) e.1; obtain ⟨⟨b, hb, e⟩, -⟩ := e; exact (hN q (hmem b q (by omega) e).1).ne hq (by decide) (by decide) rfl) (fun e => hq.ne hm (by decide) e.1) (fun e => (hN q e.1).ne hq (by decide) (by decide) rfl)
  have gk : ∀ z, z ∈ B j → kF F2 z = kF F z := fun z hz => kF_congr (g1 z 0 hz (by decide))
  have gtb : F2 tb j = F tb j := r8 tb j htb.lt (fun e => by rcases e with e | e | e; exact hne e.1; omega; obtain ⟨⟨b, hb, e⟩, -⟩ := e; exact hzt tb (hmem b tb (by omega) e).1 rfl) (fun e => htm e.1) (fun e => hzt tb e.1 rfl)
  have gnt : ∀ i, i = j ∨ i = j + 2 ^ k → F2 nt i = .null := fun i hi => (r8 nt i hnt.lt (fun e => by rcases e with e | e | e; (obtain ⟨b, hb, e⟩ := e.2; omega); exact hne e.1.symm; obtain ⟨⟨b, hb, e⟩, -⟩ := e; exact hzn nt (hmem b nt (by omega) e).1 rfl) (fun e => hnm e.1) (fun e => hzn nt e.1 rfl)).trans (hnul i (by omega))
  obtain ⟨b1, b2, b3, b4⟩ := tB j hj
  have hfc : ∀ f : Bool → Bool, ((B j).filter fun z => f ((kF F2 z).testBit k)) = (B j).filter fun z => f ((kF F z).testBit k) := fun f => List.filter_congr fun z hz => by rw [gk z hz]
  have hjlen : (B j).length ≤ ns.length := nodup_len b3 fun z hz => (hmem j z hj hz).1
  refine rz_157 (h := h2) (F := F2) (ns := ns.map ρ) (B := B j) hd hG (hm.ext r1) r6 (R.nodup hnn hlt) (fun z hz => ?_) (htb.ext r1) (hnt.ext r1) hne hk hj b3 (fun z hz => List.mem_map.mpr ⟨z, (hmem j z hj hz).1, ρj z hz⟩) (fun z hz => (nk z (hmem j z hj hz).1).ext r1 (fun i hi => g1 z i hz (by omega)) (fun q i hq => g2 q i hq)) (fun p q hp hq e => hinj p q (hmem j p hj hp).1 (hmem j q hj hq).1 (by rw [← gk p hp, ← gk q hq]; exact e)) (fun z hz => by rw [gk z hz]; exact (hmem j z hj hz).2) (gtb.trans b1) (b2.congr r1 fun z i hz hi => g1 z i hz (by omega)) (gnt j (Or.inl rfl)) (gnt _ (Or.inr rfl)) (by omega) (fun h3 F3 v8 v9 v10 v11 v12 v13 ⟨ρ2, D2, R2, D2n, D2s, D2k, H1, H2⟩ => KQ h3 F3 v8 v9 v10 v11 v12 v13 ?_)
  · obtain ⟨w, hw, rfl⟩ := List.mem_map.mp hz
    by_cases hwD : w ∈ D
    · exact Or.inl (Dk w hwD)
    · rw [r4 w hwD]; exact (hN w hw).ext r1
  · rw [hfc fun b => !b] at H1
    rw [hfc fun b => b] at H2
    have R29 := R2
    obtain ⟨s1, s2, s3, s4, s5, s6, s7, s8⟩ := R29
    have hD2 : ∀ z, z ∈ D2 → z ∈ ns := fun z hz => (hmem j z hj (D2s z hz)).1
    have hρ2 : ∀ b z, b < j → z ∈ B b → ρ z ∉ D2 := fun b z hb hz h9 => ρb b z hb hz (D2s _ h9)
    have R' : RepQ (RzP tb nt (j + 1) k B) 6 h F h2 F2 m ns ρ D := R.mono fun z i e => by
      rcases e with ⟨e, b, hb, e2⟩ | e | ⟨⟨b, hb, e⟩, e2⟩
      · exact Or.inl ⟨e, b, by omega, e2⟩
      · exact Or.inr (Or.inl ⟨e.1, by omega⟩)
      · exact Or.inr (Or.inr ⟨⟨b, by omega, e⟩, e2⟩)
    have keep : ∀ b A i, b < j → (i = b ∨ i = b + 2 ^ k) → (∀ z, z ∈ A → z ∈ B b) → HalfR h2 F2 nt i A ρ → HalfR h3 F3 nt i A (fun z => ρ2 (ρ z)) := fun b A i hb hi hA H9 => by
      refine H9.kept R2 (fun z hz => ⟨(ρns z (hmem b z (by omega) (hA z hz)).1).2.2.2, hρ2 b z hb (hA z hz)⟩) ⟨by have := hnt.lt; omega, fun e => ?_, hnm, fun e => ?_⟩ (fun z hz l e => ?_) (fun z hz => (ρns z (hmem b z (by omega) (hA z hz)).1).2.2.1)
      · obtain ⟨w, hw, e9⟩ := List.mem_map.mp e
        exact (ρns w hw).2.1 e9
      · rcases e with e | e | e
        · omega
        · exact hne e.1.symm
        · exact hzn nt (hmem j nt hj e.1).1 rfl
      · have h9 := ρns z (hmem b z (by omega) (hA z hz)).1
        rcases e with e | e | e
        · exact h9.2.1 e.1
        · exact h9.1 e.1
        · exact ρb b z hb (hA z hz) e.1
    refine ⟨fun z => ρ2 (ρ z), D ++ D2, R'.trans R2 (fun b i _ e => ?_) (fun z hz => ⟨hD2 z hz, hDj z (D2s z hz), hlt z (hD2 z hz)⟩) (fun p hp => hlt p (hDns p hp)) hDns hlt hm.lt (fun p hp i hi e => ?_) (fun p hp i hi e => ?_) (fun e => hzm m e rfl), ?_, fun z hz => ?_, fun z hz => ?_, fun b hb => ?_⟩
    · rcases e with e | e | e
      · exact Or.inl ⟨e.1, j, by omega, e.2⟩
      · exact Or.inr (Or.inl ⟨e.1, by omega⟩)
      · exact Or.inr (Or.inr ⟨⟨j, by omega, e.1⟩, e.2⟩)
    · obtain ⟨b, hb, h8⟩ := Db p hp
      rcases e with e | e | e
      · exact (ρns p (hDns p hp)).2.1 e.1
      · exact (ρns p (hDns p hp)).1 e.1
      · exact ρb b p hb h8 e.1
    · rcases e with e | e | e
      · exact hzn p (hD2 p hp) e.1
      · exact hzt p (hD2 p hp) e.1
      · omega
    · rw [List.nodup_append]
      exact ⟨Dn, D2n, fun z hz w hw e => hDj w (D2s w hw) (e ▸ hz)⟩
    · rcases List.mem_append.mp hz with hz | hz
      · obtain ⟨b, hb, h8⟩ := Db z hz
        exact ⟨b, by omega, h8⟩
      · exact ⟨j, by omega, D2s z hz⟩
    · rcases List.mem_append.mp hz with hz | hz
      · obtain ⟨b, hb, h8⟩ := Db z hz
        dsimp only; rw [s4 _ (hρ2 b z hb h8)]; exact (Dk z hz).ext s1
      · dsimp only; rw [ρj z (D2s z hz)]; exact D2k z hz
    · rcases Nat.lt_succ_iff_lt_or_eq.mp hb with hb | rfl
      · obtain ⟨e1, e2⟩ := H b hb
        exact ⟨keep b _ b hb (Or.inl rfl) (fun z hz => (List.mem_filter.mp hz).1) e1, keep b _ _ hb (Or.inr rfl) (fun z hz => (List.mem_filter.mp hz).1) e2⟩
      · exact ⟨H1.map fun z hz => by rw [ρj z (List.mem_filter.mp hz).1], H2.map fun z hz => by rw [ρj z (List.mem_filter.mp hz).1]⟩
theorem rz_151 {v3 v5 : Value} {Q : RR → AH → Prop} (hd : 6 ≤ d) (hG : StG G) (C : RzC tb nt k B h F m ns)
    (KQ : ∀ (h3 : AH) (F3 : Nat → Nat → Value), RzI tb nt (2 ^ k) k B h F m ns h3 F3 → Q (.inl (some (.ref nt))) (sF h3 F3)) :
    ∀ (w j : Nat) (h2 : AH) (F2 : Nat → Nat → Value) (v8 v9 v10 v11 v12 v13 : Value), j + w = 2 ^ k → RzI tb nt j k B h F m ns h2 F2 →
    WA G d mJ4_resize 151 [.ref m, .ref tb, .int (Int32.ofNat (2 ^ k)), v3, .int (Int32.ofNat (2 ^ (k + 1))), v5, .ref nt, .int (Int32.ofNat j), v8, v9, v10, v11, v12, v13] [] (sF h2 F2) Q := by
  intro w
  have hk2 : 2 ^ k < 2 ^ 16 := Nat.pow_lt_pow_right (by decide) (by have := C.2.2.2.2.2.2.2.2.1; omega)
  induction w with
  | zero =>
    intro j h2 F2 v8 v9 v10 v11 v12 v13 hj I
    rw [Nat.add_zero] at hj
    subst hj
    refine wa_iload (pc := 151) (y := mJ4_resize) dJ4_resize_151 rfl ?_
    refine wa_iload_n (pc := 153) (y := mJ4_resize) dJ4_resize_153 rfl ?_
    refine wa_icmp_ge (pc := 154) 353 dJ4_resize_154 rfl (fun hb154 => ?_) (fun hb154 => absurd (Int32.le_refl _) hb154)
    refine wa_aloadV (pc := 353) (y := mJ4_resize) dJ4_resize_353 rfl (by first | exact rf_s _ | exact rf_n | exact rf_q _) ?_
    refine wa_areturnV (pc := 355) (y := mJ4_resize) (.array (.object "java/util/HashMap$Node")) dJ4_resize_355 rfl (Or.inr ⟨_, rfl⟩) (by first | exact rf_s _ | exact rf_n | exact rf_q _) (KQ h2 F2 I)
  | succ w ih =>
    intro j h2 F2 v8 v9 v10 v11 v12 v13 hj I
    have hlt : Int32.ofNat j < Int32.ofNat (2 ^ k) := (iN_lt (by omega) (by omega)).mpr (by omega)
    refine wa_iload (pc := 151) (y := mJ4_resize) dJ4_resize_151 rfl ?_
    refine wa_iload_n (pc := 153) (y := mJ4_resize) dJ4_resize_153 rfl ?_
    refine wa_icmp_ge (pc := 154) 353 dJ4_resize_154 rfl (fun hb154 => absurd hlt (Int32.not_lt.mpr hb154)) (fun hb154 => ?_)
    refine rz_step hd hG C (by omega) I (fun h3 F3 v8 v9 v10 v11 v12 v13 I2 => ?_)
    refine wa_iincN (pc := 347) (y := mJ4_resize) dJ4_resize_347 rfl (Nat.le_of_ble_eq_true rfl) (by first | rfl | (simp [okst, rf_cat] <;> assumption)) ?_
    simp only [List.set_cons_zero, List.set_cons_succ]
    refine wa_goto (pc := 350) (y := mJ4_resize) 151 dJ4_resize_350 rfl ?_
    exact ih (j + 1) h3 F3 _ _ _ _ _ _ (by omega) I2
end RZ2
