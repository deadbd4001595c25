/-! ===== editing: the component's way and the model's way (plain) ===== -/
def DsI (f : Nat → Int32) : Prop := ∀ i j, i < j → j < u (f 1) → f (162 + 4 * i) = f (162 + 4 * j) → f (162 + 4 * i + 1) ≠ f (162 + 4 * j + 1)
def HmI (f : Nat → Int32) : Prop := ∀ c, c < 12 → f (6 + c) ≠ -1
section EDITS
variable {f g : Nat → Int32} {cue ch cue2 ch2 lev part : Int32} {i j k c c2 p was : Nat}
theorem DsI.of (hI : Inv f) : DsI f := hI.2.2.2.1
theorem gv_is (hD : DsI f) (hi : i < u (f 1)) (h1 : f (162 + 4 * i) = cue) (h2 : f (162 + 4 * i + 1) = ch) : gv f cue ch = some i := by
  cases e : gv f cue ch with
  | none => exact absurd ⟨h1, h2⟩ (gv_none e i hi)
  | some j =>
    obtain ⟨j1, j2, j3⟩ := gv_some e
    rcases Nat.lt_trichotomy i j with hl | hl | hl
    · exact absurd (h2.trans j3.symm) (hD i j hl j1 (h1.trans j2.symm))
    · rw [hl]
    · exact absurd (j3.trans h2.symm) (hD j i hl hi (j2.trans h1.symm))
theorem lvN_ne (hH : HmI f) (hc : c < 12) : ∀ k, lvN f c k ≠ -1
  | 0 => hH c hc
  | k + 1 => by
    show lvS f c k (lvN f c k) ≠ -1
    unfold lvS
    split
    · split
      · exact hH c hc
      · assumption
    · split
      · exact hH c hc
      · exact lvN_ne hH hc k
theorem gi_row {r : Nat} (hi : i ≠ giK f cue ch) (hr : r < 4) : giF f cue ch lev part (162 + 4 * i + r) = f (162 + 4 * i + r) := giF_hi (by omega) (by omega)
theorem gi_row0 (hi : i ≠ giK f cue ch) : giF f cue ch lev part (162 + 4 * i) = f (162 + 4 * i) := gi_row (r := 0) hi (by decide)
theorem giF_1w (h : u (f 1) ≤ 100) : u (giF f cue ch lev part 1) = if (gv f cue ch).isSome then u (f 1) else u (f 1) + 1 := by
  unfold giF giM
  rw [upd_o _ _ (by omega), upd_o _ _ (by omega), upd_o _ _ (by omega), upd_o _ _ (by omega)]
  cases gv f cue ch with
  | none => show u (upd f 1 _ 1) = _; rw [upd_s, u_of (by omega)]; rfl
  | some k => rfl
theorem gi_ds (hD : DsI f) (h : u (f 1) ≤ 100) : DsI (giF f cue ch lev part) := by
  intro i j hij hj e
  rw [giF_1w h] at hj
  obtain ⟨K0, K1, -, -⟩ := giF_K (f := f) (cue := cue) (ch := ch) (lev := lev) (part := part)
  have hKn : ∀ i, i < u (f 1) → f (162 + 4 * i) = cue → f (162 + 4 * i + 1) = ch → i = giK f cue ch := fun i hi e1 e2 => by
    unfold giK
    rw [gv_is hD hi e1 e2]
  have hKv : ∀ i, i < (if (gv f cue ch).isSome then u (f 1) else u (f 1) + 1) → i ≠ giK f cue ch → i < u (f 1) := fun i hi hne => by
    unfold giK at hne
    cases e9 : gv f cue ch with
    | none => rw [e9] at hi hne; simp at hi hne; omega
    | some k => rw [e9] at hi; simpa using hi
  by_cases h1 : i = giK f cue ch
  · have h2 : j ≠ giK f cue ch := by omega
    rw [h1, K0, gi_row0 h2] at e
    rw [h1, K1, gi_row (r := 1) h2 (by decide)]
    intro e2
    exact h2 (hKn j (hKv j hj h2) e.symm e2.symm)
  · by_cases h2 : j = giK f cue ch
    · rw [h2, K0, gi_row0 h1] at e
      rw [h2, K1, gi_row (r := 1) h1 (by decide)]
      intro e2
      exact h1 (hKn i (hKv i (by omega) h1) e e2)
    · rw [gi_row0 h1, gi_row0 h2] at e
      rw [gi_row (r := 1) h1 (by decide), gi_row (r := 1) h2 (by decide)]
      exact hD i j hij (hKv j hj h2) e
theorem gi_gv (hD : DsI f) (h : u (f 1) ≤ 100) (ne : ¬ (cue2 = cue ∧ ch2 = ch)) : gv (giF f cue ch lev part) cue2 ch2 = gv f cue2 ch2 ∧ ∀ i, gv f cue2 ch2 = some i → i ≠ giK f cue ch := by
  obtain ⟨K0, K1, -, -⟩ := giF_K (f := f) (cue := cue) (ch := ch) (lev := lev) (part := part)
  have hK : ∀ i, gv f cue2 ch2 = some i → i ≠ giK f cue ch := fun i e h9 => by
    obtain ⟨i1, i2, i3⟩ := gv_some e
    unfold giK at h9
    cases e9 : gv f cue ch with
    | none => rw [e9] at h9; simp at h9; omega
    | some k =>
      rw [e9] at h9
      simp at h9
      subst h9
      obtain ⟨k1, k2, k3⟩ := gv_some e9
      exact ne ⟨i2.symm.trans k2, i3.symm.trans k3⟩
  refine ⟨?_, hK⟩
  cases e : gv f cue2 ch2 with
  | some i =>
    obtain ⟨i1, i2, i3⟩ := gv_some e
    have hi := hK i e
    refine gv_is (gi_ds hD h) (by rw [giF_1w h]; split <;> omega) (by rw [gi_row0 hi]; exact i2) (by rw [gi_row (r := 1) hi (by decide)]; exact i3)
  | none =>
    cases e2 : gv (giF f cue ch lev part) cue2 ch2 with
    | none => rfl
    | some j =>
      obtain ⟨j1, j2, j3⟩ := gv_some e2
      by_cases hj : j = giK f cue ch
      · rw [hj, K0] at j2
        rw [hj, K1] at j3
        exact absurd ⟨j2.symm, j3.symm⟩ ne
      · rw [gi_row0 hj] at j2
        rw [gi_row (r := 1) hj (by decide)] at j3
        rw [giF_1w h] at j1
        refine absurd ⟨j2, j3⟩ (gv_none e j ?_)
        unfold giK at hj
        cases e9 : gv f cue ch with
        | none => rw [e9] at j1 hj; simp at j1 hj; omega
        | some k => rw [e9] at j1; simpa using j1
theorem gi_same (hD : DsI f) (h : u (f 1) ≤ 100) : gv (giF f cue ch lev part) cue ch = some (giK f cue ch) := by
  obtain ⟨K0, K1, -, -⟩ := giF_K (f := f) (cue := cue) (ch := ch) (lev := lev) (part := part)
  refine gv_is (gi_ds hD h) ?_ K0 K1
  rw [giF_1w h]
  unfold giK
  cases e : gv f cue ch with
  | none => simp
  | some k => simpa using (gv_some e).1
theorem ofN_ne (hc : c < 12) (hc2 : c2 < 12) (h : c2 ≠ c) : Int32.ofNat c2 ≠ Int32.ofNat c := fun e => h ((iN_eq (by omega) (by omega)).mp e)
/-- other channels keep their levels -/
theorem gi_lv (hD : DsI f) (h : u (f 1) ≤ 100) (hc : c < 12) (hc2 : c2 < 12) (hne : c2 ≠ c) : ∀ k, k ≤ 12 → lvN (giF f cue (Int32.ofNat c) lev part) c2 k = lvN f c2 k
  | 0, _ => giF_lo (by omega) (by omega)
  | k + 1, hk => by
    show lvS _ c2 k _ = lvS f c2 k _
    rw [gi_lv hD h hc hc2 hne k (by omega)]
    unfold lvS isBl
    rw [giF_lo (j := 18 + 12 * k) (by omega) (by omega), giF_lo (j := 18 + 12 * k + 2) (by omega) (by omega), giF_lo (j := 6 + c2) (by omega) (by omega)]
    obtain ⟨e1, e2⟩ := gi_gv (f := f) (cue := cue) (ch := Int32.ofNat c) (lev := lev) (part := part) (cue2 := f (18 + 12 * k)) (ch2 := Int32.ofNat c2) hD h (fun e => ofN_ne hc hc2 hne e.2)
    rw [e1]
    cases e : gv f (f (18 + 12 * k)) (Int32.ofNat c2) with
    | none => rfl
    | some i => simp only [gi_row (r := 2) (e2 i e) (show 2 < 4 by decide)]
theorem tk_ds (hD : DsI f) (h : u (f 1) ≤ 75) : DsI (tkF f k) := by
  intro i j hij hj e
  have h1 : u (tkF f k 1) = u (f 1) - 1 := by
    unfold tkF
    show u (if _ then _ else _) = _
    rw [if_neg (by omega)]
    show u (upd f 1 _ 1) = _
    rw [upd_s, u_of (by omega)]
  rw [h1] at hj
  have a0 := tkF_at (f := f) (k := k) (i := i) (r := 0) (by decide) (by omega)
  have a1 := tkF_at (f := f) (k := k) (i := i) (r := 1) (by decide) (by omega)
  have b0 := tkF_at (f := f) (k := k) (i := j) (r := 0) (by decide) (by omega)
  have b1 := tkF_at (f := f) (k := k) (i := j) (r := 1) (by decide) (by omega)
  simp only [Nat.add_zero] at a0 b0
  rw [a0, b0] at e
  rw [a1, b1]
  by_cases hi : i < k
  · by_cases hj2 : j < k
    · rw [if_pos hi, if_pos hj2] at e ⊢
      exact hD i j hij (by omega) e
    · rw [if_pos hi, if_neg hj2] at e ⊢
      exact hD i (j + 1) (by omega) (by omega) e
  · rw [if_neg hi, if_neg (by omega)] at e ⊢
    exact hD (i + 1) (j + 1) (by omega) (by omega) e
theorem tkF_1v (h : u (f 1) ≤ 75) : u (tkF f k 1) = u (f 1) - 1 := by
  unfold tkF
  show u (if _ then _ else _) = _
  rw [if_neg (by omega)]
  show u (upd f 1 _ 1) = _
  rw [upd_s, u_of (by omega)]
theorem tk_gv (hD : DsI f) (h : u (f 1) ≤ 75) (hk : gv f cue ch = some k) (ne : ¬ (cue2 = cue ∧ ch2 = ch)) : gv (tkF f k) cue2 ch2 = (gv f cue2 ch2).map (fun i => if i < k then i else i - 1) ∧ ∀ i, gv f cue2 ch2 = some i → i ≠ k := by
  obtain ⟨k1, k2, k3⟩ := gv_some hk
  have hK : ∀ i, gv f cue2 ch2 = some i → i ≠ k := fun i e h9 => by
    obtain ⟨i1, i2, i3⟩ := gv_some e
    subst h9
    exact ne ⟨i2.symm.trans k2, i3.symm.trans k3⟩
  refine ⟨?_, hK⟩
  cases e : gv f cue2 ch2 with
  | some i =>
    obtain ⟨i1, i2, i3⟩ := gv_some e
    have hi := hK i e
    have hlt : (if i < k then i else i - 1) < u (f 1) - 1 := by split <;> omega
    have a0 := tkF_at (f := f) (k := k) (i := if i < k then i else i - 1) (r := 0) (by decide) hlt
    have a1 := tkF_at (f := f) (k := k) (i := if i < k then i else i - 1) (r := 1) (by decide) hlt
    simp only [Nat.add_zero] at a0
    refine gv_is (tk_ds hD h) (by rw [tkF_1v h]; exact hlt) (a0.trans ?_) (a1.trans ?_)
    · by_cases h9 : i < k
      · rw [if_pos h9, if_pos h9]; exact i2
      · rw [if_neg h9, if_neg (by omega), show i - 1 + 1 = i by omega]; exact i2
    · by_cases h9 : i < k
      · rw [if_pos h9, if_pos h9]; exact i3
      · rw [if_neg h9, if_neg (by omega), show i - 1 + 1 = i by omega]; exact i3
  | none =>
    cases e2 : gv (tkF f k) cue2 ch2 with
    | none => rfl
    | some j =>
      obtain ⟨j1, j2, j3⟩ := gv_some e2
      rw [tkF_1v h] at j1
      have a0 := tkF_at (f := f) (k := k) (i := j) (r := 0) (by decide) j1
      have a1 := tkF_at (f := f) (k := k) (i := j) (r := 1) (by decide) j1
      simp only [Nat.add_zero] at a0
      rw [a0] at j2
      rw [a1] at j3
      by_cases h9 : j < k
      · rw [if_pos h9] at j2 j3
        exact absurd ⟨j2, j3⟩ (gv_none e j (by omega))
      · rw [if_neg h9] at j2 j3
        exact absurd ⟨j2, j3⟩ (gv_none e (j + 1) (by omega))
theorem tk_lv (hD : DsI f) (h : u (f 1) ≤ 75) (hk : gv f cue (Int32.ofNat c) = some j) (hc : c < 12) (hc2 : c2 < 12) (hne : c2 ≠ c) : ∀ k, k ≤ 12 → lvN (tkF f j) c2 k = lvN f c2 k
  | 0, _ => tkF_lo (by omega) (by omega)
  | k + 1, hk2 => by
    show lvS _ c2 k _ = lvS f c2 k _
    rw [tk_lv hD h hk hc hc2 hne k (by omega)]
    unfold lvS isBl
    rw [tkF_lo (j := 18 + 12 * k) (by omega) (by omega), tkF_lo (j := 18 + 12 * k + 2) (by omega) (by omega), tkF_lo (j := 6 + c2) (by omega) (by omega)]
    obtain ⟨e1, e2⟩ := tk_gv (f := f) (cue := cue) (ch := Int32.ofNat c) (cue2 := f (18 + 12 * k)) (ch2 := Int32.ofNat c2) hD h hk (fun e => ofN_ne hc hc2 hne e.2)
    rw [e1]
    cases e : gv f (f (18 + 12 * k)) (Int32.ofNat c2) with
    | none => rfl
    | some i =>
      obtain ⟨i1, -, -⟩ := gv_some e
      have hi := e2 i e
      have hj := (gv_some hk).1
      have hlt : (if i < j then i else i - 1) < u (f 1) - 1 := by split <;> omega
      have a2 := tkF_at (f := f) (k := j) (i := if i < j then i else i - 1) (r := 2) (by decide) hlt
      have a3 : tkF f j (162 + 4 * (if i < j then i else i - 1) + 2) = f (162 + 4 * i + 2) := by
        rw [a2]
        by_cases h9 : i < j
        · rw [if_pos h9, if_pos h9]
        · rw [if_neg h9, if_neg (by omega), show i - 1 + 1 = i by omega]
      simp only [Option.map_some, a3]
end EDITS
