/-! ===== the state of the model: adding a cue keeps the invariant; entries keep it ===== -/
theorem ipg_lt {f : Nat → Int32} {n : Int32} : ∀ {t k i : Nat}, k ≤ i → i < ipg f n t k → f (18 + 12 * i) < n
  | 0, k, i, h1, h2 => absurd h2 (by show ¬ i < k; omega)
  | t + 1, k, i, h1, h2 => by
    unfold ipg at h2
    split at h2
    · rename_i e
      by_cases ei : i = k
      · rw [ei]; exact e
      · exact ipg_lt (by omega) h2
    · omega
theorem ipg_ge {f : Nat → Int32} {n : Int32} : ∀ {t k : Nat}, ipg f n t k < k + t → ¬ f (18 + 12 * ipg f n t k) < n
  | 0, k, h => absurd h (by show ¬ k < k + 0; omega)
  | t + 1, k, h => by
    unfold ipg at h ⊢
    split
    · rename_i e
      rw [if_pos e] at h
      exact ipg_ge (by omega)
    · rename_i e
      exact e
theorem adF_hi {f : Nat → Int32} {n : Int32} {p j : Nat} (hp : p ≤ u (f 0)) (hn : u (f 0) < 12) (h : 162 ≤ j ∨ 0 < j ∧ j < 18) : adF f n p j = f j := by
  unfold adF
  rw [upd_o _ _ (by omega), upd_o _ _ (by omega), upd_o _ _ (by omega)]
  unfold zrF
  rw [if_neg (by omega)]
  unfold cpF
  rw [if_neg (by omega)]
theorem adF_0 {f : Nat → Int32} {n : Int32} {p : Nat} (hn : u (f 0) < 12) : u (adF f n p 0) = u (f 0) + 1 := by
  unfold adF
  rw [upd_s, u_of (by omega)]
theorem adF_at {f : Nat → Int32} {n : Int32} {p k r : Nat} (hn : u (f 0) < 12) (hr : r < 12) (hk : k ≤ u (f 0)) : adF f n p (18 + 12 * k + r) = if k < p then f (18 + 12 * k + r) else if k = p then (if r = 0 then n else if r = 1 then -1 else 0) else f (18 + 12 * (k - 1) + r) := by
  unfold adF
  rw [upd_o _ _ (by omega)]
  by_cases e : k < p
  · rw [if_pos e, upd_o _ _ (by omega), upd_o _ _ (by omega)]
    unfold zrF
    rw [if_neg (by omega)]
    unfold cpF
    rw [if_neg (by omega)]
  · rw [if_neg e]
    by_cases e2 : k = p
    · rw [if_pos e2, e2]
      by_cases r1 : r = 1
      · rw [r1, upd_s, if_neg (by omega), if_pos rfl]
      · rw [upd_o _ _ (by omega)]
        by_cases r0 : r = 0
        · rw [r0, if_pos rfl]
          exact upd_s _ _ _
        · rw [upd_o _ _ (by omega), if_neg r0, if_neg r1]
          unfold zrF
          rw [if_pos (by omega)]
    · rw [if_neg e2, upd_o _ _ (by omega), upd_o _ _ (by omega)]
      unfold zrF
      rw [if_neg (by omega)]
      unfold cpF
      rw [if_pos (by omega)]
      congr 1
      omega
theorem inv_ad {f : Nat → Int32} {n : Int32} (hI : Inv f) (h9 : inb n 1 99 = true) (hc : isC f n = false) (hn : u (f 0) < 12) : Inv (adF f n (ip f n)) := by
  have hlo : ∀ i, i < ip f n → f (18 + 12 * i) < n := fun i hi => ipg_lt (Nat.zero_le _) hi
  have hp := ip_le f n
  have hpn : pl f n = none := by
    unfold isC at hc
    cases e : pl f n with
    | none => rfl
    | some p => rw [e] at hc; cases hc
  have hhi : ∀ i, ip f n ≤ i → i < u (f 0) → n < f (18 + 12 * i) := fun i h1 h2 => by
    have a : ¬ f (18 + 12 * ip f n) < n := ipg_ge (t := u (f 0)) (k := 0) (by show ip f n < 0 + u (f 0); omega)
    have b := srt_le hI h1 h2
    have c : n ≤ f (18 + 12 * i) := Int32.le_trans (Int32.not_lt.mp a) b
    have d := pl_none hpn i h2
    rcases Int32.lt_or_eq_of_le c with x | x
    · exact x
    · exact absurd x.symm d
  generalize ip f n = p at hlo hp hhi ⊢
  obtain ⟨h1, h2, h3, h4, h5, h6⟩ := hI
  have n0 := adF_0 (f := f) (n := n) (p := p) hn
  have l1 : adF f n p 1 = f 1 := adF_hi hp hn (by omega)
  have li : ∀ i r, adF f n p (162 + 4 * i + r) = f (162 + 4 * i + r) := fun i r => adF_hi hp hn (by omega)
  have li0 : ∀ i, adF f n p (162 + 4 * i) = f (162 + 4 * i) := fun i => adF_hi hp hn (by omega)
  have at0 : ∀ k, k ≤ u (f 0) → adF f n p (18 + 12 * k) = if k < p then f (18 + 12 * k) else if k = p then n else f (18 + 12 * (k - 1)) := fun k hk => by
    have := adF_at (f := f) (n := n) (p := p) (k := k) (r := 0) hn (by omega) hk
    rw [Nat.add_zero, Nat.add_zero] at this
    exact this
  unfold inb at h9
  rw [Bool.and_eq_true, decide_eq_true_eq, decide_eq_true_eq] at h9
  refine ⟨by rw [n0]; omega, by rw [l1]; exact h2, fun i hi => ?_, fun i j hij hj => ?_, fun k hk => ?_, fun j k hjk hk => ?_⟩
  · rw [l1] at hi
    obtain ⟨a, b, q, q1, q2⟩ := h3 i hi
    rw [li, li, li0, n0]
    refine ⟨a, b, ?_⟩
    rcases Nat.lt_or_ge q p with x | x
    · exact ⟨q, by omega, by rw [at0 q (by omega), if_pos x]; exact q2⟩
    · exact ⟨q + 1, by omega, by rw [at0 (q + 1) (by omega), if_neg (by omega), if_neg (by omega), Nat.add_sub_cancel]; exact q2⟩
  · rw [l1] at hj
    rw [li0, li0, li, li]
    exact h4 i j hij hj
  · rw [n0] at hk
    rw [at0 k (by omega), adF_at hn (by omega) (by omega), adF_at hn (by omega) (by omega), adF_at hn (by omega) (by omega)]
    by_cases x : k < p
    · rw [if_pos x, if_pos x, if_pos x, if_pos x]
      exact h5 k (by omega)
    · rw [if_neg x, if_neg x, if_neg x, if_neg x]
      by_cases x2 : k = p
      · rw [if_pos x2, if_pos x2, if_pos x2, if_pos x2]
        exact ⟨h9, Or.inl rfl, Or.inl rfl, Or.inl rfl⟩
      · rw [if_neg x2, if_neg x2, if_neg x2, if_neg x2]
        exact h5 (k - 1) (by omega)
  · rw [n0] at hk
    rw [at0 k (by omega), at0 j (by omega)]
    by_cases x : k < p
    · rw [if_pos x, if_pos (by omega)]
      exact h6 j k hjk (by omega)
    · rw [if_neg x]
      by_cases x2 : k = p
      · rw [if_pos x2, if_pos (by omega)]
        exact hlo j (by omega)
      · rw [if_neg x2]
        by_cases y : j < p
        · rw [if_pos y]
          exact Int32.lt_trans (hlo j y) (hhi (k - 1) (by omega) (by omega))
        · rw [if_neg y]
          by_cases y2 : j = p
          · rw [if_pos y2]
            exact hhi (k - 1) (by omega) (by omega)
          · rw [if_neg y2]
            exact h6 (j - 1) (k - 1) (by omega) (by omega)
theorem dA_inv {f : Nat → Int32} {n : Int32} (hI : Inv f) : Inv (dA f n).2 := by
  unfold dA
  split
  · exact hI
  · rename_i e1
    split
    · exact hI
    · rename_i e2
      have := hI.1
      exact inv_ad hI (by cases e : inb n 1 99 <;> simp_all) (by cases e : isC f n <;> simp_all) (by omega)
theorem rm_inv {f : Nat → Int32} {cue : Int32} {p : Nat} (hI : Inv f) (hp : pl f cue = some p) : Inv (rcF (rmg cue (u (f 1)) f) p) := by
  have hps := pl_some hp
  obtain ⟨hRI, hRn⟩ := rmg_inv (cue := cue) hI (Nat.le_refl _) (fun i h1 h2 => by omega)
  have hR0 : rmg cue (u (f 1)) f 0 = f 0 := rmg_lo (by omega) (by omega)
  have hn := hI.1
  have hRp : rmg cue (u (f 1)) f (18 + 12 * p) = cue := (rmg_lo (by omega) (by omega)).trans hps.2
  exact inv_rc hRI (by rw [hR0]; exact hps.1) (fun i hi => by rw [hRp]; exact hRn i hi)
theorem dRm_inv {f : Nat → Int32} {σ : MS} {cue : Int32} {b : Bool} (hI : Inv f) (hB : Inv (σ.1 1)) : Inv (dRm f σ cue b).2.1 := by
  unfold dRm
  split
  · exact hI
  · rename_i p hp
    split
    · exact hB
    · split
      · split
        · exact hB
        · exact hdF_inv (rm_inv hI hp)
      · exact rm_inv hI hp
theorem dGi_inv {f : Nat → Int32} {σ : MS} {cue lev part : Int32} {p c : Nat} {b : Bool} (hI : Inv f) (hB : Inv (σ.1 1)) (hp : pl f cue = some p) (hc : c < 12) (hpt : u part < 4) : Inv (dGi f σ cue p c lev part b).2.1 := by
  unfold dGi
  split
  · exact hB
  · exact gvH_inv hI hp hc hpt
theorem dPs_inv {f : Nat → Int32} {t : Int32} (hI : Inv f) : Inv (dPs f t).2 := by
  unfold dPs
  split
  · exact hI
  · split
    · exact hI
    · exact tkN_inv hI
theorem flE_inv {f : Nat → Int32} {σ : MS} {k a b lv : Int32} (hI : Inv f) (hB : Inv (σ.1 1)) : Inv (flE f σ k a b lv).2.1 := by
  unfold flE
  split
  · exact dA_inv hI
  · split
    · exact dRm_inv hI hB
    · split
      · split
        · exact hI
        · rename_i p hp
          split
          · exact hI
          · rename_i hc
            split
            · exact hI
            · exact dGi_inv hI hB hp (Decidable.of_not_not hc) (by decide)
      · split
        · split
          · exact hI
          · rename_i p hp
            split
            · exact hI
            · rename_i hc
              exact dGi_inv hI hB hp (Decidable.of_not_not hc) (by decide)
        · split
          · exact dGo_inv hI hB
          · split
            · split
              · exact hI
              · exact goF_eqv.inv hI
            · exact dPs_inv hI
