/-! ===== holding: one channel after another (plain) ===== -/
/-- whether a cue's channel would be held -/
def hlB (f : Nat → Int32) (k c : Nat) (had : Int32) : Bool := decide (k < u (f 0)) && (!isBl f k && ((gv f (f (18 + 12 * k)) (Int32.ofNat c)).isNone && !decide (lvN f c (k + 1) = had)))
def hlF (f : Nat → Int32) (k c : Nat) (had : Int32) : Nat → Int32 := if hlB f k c had then giF f (f (18 + 12 * k)) (Int32.ofNat c) had 0 else f
def hdW (lev : Nat → Int32) (p was : Nat) : Nat → Nat → (Nat → Int32) → Bool × (Nat → Int32)
  | 0, _, f => (false, f)
  | t + 1, c, f => (hlB f p c (lev (12 * was + c)) || (hdW lev p was t (c + 1) (hlF f p c (lev (12 * was + c)))).1, (hdW lev p was t (c + 1) (hlF f p c (lev (12 * was + c)))).2)
section EDITS2
variable {f g lev : Nat → Int32} {i j k c c2 p was t : Nat} {had : Int32}
theorem hlF_lo (h : j < 162) (h1 : j ≠ 1) : hlF f k c had j = f j := by
  unfold hlF
  split
  · exact giF_lo h h1
  · rfl
theorem hlF_1 (h : u (f 1) ≤ 100) : u (f 1) ≤ u (hlF f k c had 1) ∧ u (hlF f k c had 1) ≤ u (f 1) + 1 := by
  unfold hlF
  split
  · rw [giF_1w h]; split <;> omega
  · omega
theorem hlB_gv (h : hlB f k c had = true) : k < u (f 0) ∧ isBl f k = false ∧ gv f (f (18 + 12 * k)) (Int32.ofNat c) = none ∧ lvN f c (k + 1) ≠ had := by
  unfold hlB at h
  simp only [Bool.and_eq_true, decide_eq_true_eq, Bool.not_eq_true', Option.isNone_iff_eq_none, decide_eq_false_iff_not] at h
  exact ⟨h.1, h.2.1, h.2.2.1, h.2.2.2⟩
theorem hlB_of (h1 : k < u (f 0)) (h2 : isBl f k = false) (h3 : gv f (f (18 + 12 * k)) (Int32.ofNat c) = none) (h4 : lvN f c (k + 1) ≠ had) : hlB f k c had = true := by
  unfold hlB
  simp [h1, h2, h3, h4]
theorem hlF_1t (h : u (f 1) ≤ 100) (e : hlB f k c had = true) : u (hlF f k c had 1) = u (f 1) + 1 := by
  unfold hlF
  rw [if_pos e, giF_1w h, (hlB_gv e).2.2.1]
  rfl
theorem hdW_1 : ∀ {t c : Nat} {f : Nat → Int32}, u (f 1) + t ≤ 100 → u (f 1) ≤ u ((hdW lev p was t c f).2 1) ∧ u ((hdW lev p was t c f).2 1) ≤ u (f 1) + t
  | 0, _, _, _ => ⟨Nat.le_refl _, Nat.le_refl _⟩
  | t + 1, c, f, h => by
    have h1 := hlF_1 (f := f) (k := p) (c := c) (had := lev (12 * was + c)) (by omega)
    have h2 := hdW_1 (t := t) (c := c + 1) (f := hlF f p c (lev (12 * was + c))) (by omega)
    unfold hdW
    exact ⟨Nat.le_trans h1.1 h2.1, by have := h2.2; simp only at this ⊢; omega⟩
theorem hdW_lo (h : j < 162) (h1 : j ≠ 1) : ∀ {t c : Nat} {f : Nat → Int32}, (hdW lev p was t c f).2 j = f j
  | 0, _, _ => rfl
  | t + 1, c, f => by
    unfold hdW
    show (hdW lev p was t (c + 1) _).2 j = _
    rw [hdW_lo h h1, hlF_lo h h1]
/-- the model's holding in terms of the component's -/
theorem hdg_W : ∀ {t c : Nat} {f : Nat → Int32}, p < u (f 0) → isBl f p = false → p < 12 → u (f 1) ≤ 60 → t ≤ 12 →
    ((hdW lev p was t c f).1 = false → hdg lev p was t c f = (0, f) ∧ (hdW lev p was t c f).2 = f) ∧
    ((hdW lev p was t c f).1 = true → f (18 + 12 * p + 3) = 1 → (hdg lev p was t c f).1 = 1) ∧
    ((hdW lev p was t c f).1 = true → f (18 + 12 * p + 3) ≠ 1 → u ((hdW lev p was t c f).2 1) ≤ 60 → hdg lev p was t c f = (0, (hdW lev p was t c f).2)) ∧
    ((hdW lev p was t c f).1 = true → f (18 + 12 * p + 3) ≠ 1 → 60 < u ((hdW lev p was t c f).2 1) → (hdg lev p was t c f).1 = 2)
  | 0, c, f, _, _, _, _, _ => ⟨fun _ => ⟨rfl, rfl⟩, fun e => (by cases e), fun e => by (cases e), fun e => by cases e⟩
  | t + 1, c, f, h0, hb, hp, h60, ht => by
    have hcond : hlB f p c (lev (12 * was + c)) = true ↔ gv f (f (18 + 12 * p)) (Int32.ofNat c) = none ∧ lvN f c (p + 1) ≠ lev (12 * was + c) :=
      ⟨fun e => (hlB_gv e).2.2, fun e => hlB_of h0 hb e.1 e.2⟩
    by_cases hc : hlB f p c (lev (12 * was + c)) = true
    · have hF : hlF f p c (lev (12 * was + c)) = giF f (f (18 + 12 * p)) (Int32.ofNat c) (lev (12 * was + c)) 0 := by unfold hlF; rw [if_pos hc]
      have h1 : u (hlF f p c (lev (12 * was + c)) 1) = u (f 1) + 1 := hlF_1t (by omega) hc
      have hW : hdW lev p was (t + 1) c f = (true, (hdW lev p was t (c + 1) (hlF f p c (lev (12 * was + c)))).2) := by
        show (_ || _, _) = _
        rw [hc]; rfl
      rw [hW]
      unfold hdg
      rw [if_pos (hcond.mp hc)]
      refine ⟨fun e => (by cases e), fun _ e => by rw [if_pos e], fun _ e h => ?_, fun _ e h => ?_⟩
      · rw [if_neg e]
        have hm := hdW_1 (lev := lev) (p := p) (was := was) (t := t) (c := c + 1) (f := hlF f p c (lev (12 * was + c))) (by omega)
        have hm1 := hm.1
        simp only at h
        rw [if_neg (by omega), ← hF]
        obtain ⟨i1, i2, i3, i4⟩ := hdg_W (t := t) (c := c + 1) (f := hlF f p c (lev (12 * was + c))) (by rw [hlF_lo (by decide) (by decide)]; exact h0) (by unfold isBl; rw [hlF_lo (by omega) (by omega)]; exact hb) hp (by omega) (by omega)
        cases ha : (hdW lev p was t (c + 1) (hlF f p c (lev (12 * was + c)))).1 with
        | false =>
          obtain ⟨j1, j2⟩ := i1 ha
          rw [j1, j2]
        | true => exact i3 ha (by rw [hlF_lo (by omega) (by omega)]; exact e) h
      · rw [if_neg e]
        by_cases h61 : u (f 1) = 60
        · rw [if_pos h61]
        · rw [if_neg h61, ← hF]
          obtain ⟨i1, i2, i3, i4⟩ := hdg_W (t := t) (c := c + 1) (f := hlF f p c (lev (12 * was + c))) (by rw [hlF_lo (by decide) (by decide)]; exact h0) (by unfold isBl; rw [hlF_lo (by omega) (by omega)]; exact hb) hp (by omega) (by omega)
          cases ha : (hdW lev p was t (c + 1) (hlF f p c (lev (12 * was + c)))).1 with
          | false =>
            obtain ⟨j1, j2⟩ := i1 ha
            simp only [j2] at h
            omega
          | true => exact i4 ha (by rw [hlF_lo (by omega) (by omega)]; exact e) h
    · have hc2 : hlB f p c (lev (12 * was + c)) = false := by simpa using hc
      have hF : hlF f p c (lev (12 * was + c)) = f := by unfold hlF; rw [if_neg hc]
      have hW : hdW lev p was (t + 1) c f = hdW lev p was t (c + 1) f := by
        show (_ || _, _) = _
        rw [hc2, hF]
        rfl
      have hg : hdg lev p was (t + 1) c f = hdg lev p was t (c + 1) f := by
        conv => lhs; unfold hdg
        rw [if_neg (fun e => hc (hcond.mpr e))]
      rw [hW, hg]
      exact hdg_W h0 hb hp h60 (by omega)
/-- nothing is held where the cue isn't there, or is a block -/
theorem hdW_none (h : ∀ c, hlB f p c (lev (12 * was + c)) = false) : ∀ {t c : Nat}, hdW lev p was t c f = (false, f)
  | 0, _ => rfl
  | t + 1, c => by
    show (_ || _, _) = _
    have hF : hlF f p c (lev (12 * was + c)) = f := by unfold hlF; rw [if_neg (by rw [h c]; decide)]
    rw [hF, h c, hdW_none h]
    rfl
theorem hdF_W (hp : p < 12 ∨ u (f 0) ≤ p) (h60 : u (f 1) ≤ 60) :
    ((hdW lev p was 12 0 f).1 = false → hdF lev p was f = (0, f) ∧ (hdW lev p was 12 0 f).2 = f) ∧
    ((hdW lev p was 12 0 f).1 = true → f (18 + 12 * p + 3) = 1 → (hdF lev p was f).1 = 1) ∧
    ((hdW lev p was 12 0 f).1 = true → f (18 + 12 * p + 3) ≠ 1 → u ((hdW lev p was 12 0 f).2 1) ≤ 60 → hdF lev p was f = (0, (hdW lev p was 12 0 f).2)) ∧
    ((hdW lev p was 12 0 f).1 = true → f (18 + 12 * p + 3) ≠ 1 → 60 < u ((hdW lev p was 12 0 f).2 1) → (hdF lev p was f).1 = 2) := by
  unfold hdF
  by_cases h : p < u (f 0) ∧ isBl f p = false
  · rw [if_pos h]
    exact hdg_W h.1 h.2 (by omega) h60 (by decide)
  · rw [if_neg h]
    have hn : hdW lev p was 12 0 f = (false, f) := hdW_none fun c => by
      cases e : hlB f p c (lev (12 * was + c)) with
      | false => rfl
      | true => exact absurd ⟨(hlB_gv e).1, (hlB_gv e).2.1⟩ h
    rw [hn]
    exact ⟨fun _ => ⟨rfl, rfl⟩, fun e => (by cases e), fun e => (by cases e), fun e => by cases e⟩
/-- only the one channel can be held -/
theorem hdW_one (hD : DsI f) (h0 : u (f 0) ≤ 12) (hc : c < 12) (h100 : u (f 1) ≤ 99) (hlv : ∀ c2, c2 < 12 → c2 ≠ c → p < u (f 0) → lev (12 * was + c2) = lvN f c2 (p + 1)) :
    ∀ {t c1 : Nat}, c1 + t = 12 → (c1 ≤ c → hdW lev p was t c1 f = (hlB f p c (lev (12 * was + c)), hlF f p c (lev (12 * was + c)))) ∧ (c < c1 → ∀ f2, (f2 = f ∨ ∃ cue l q, f2 = giF f cue (Int32.ofNat c) l q) → hdW lev p was t c1 f2 = (false, f2)) := by
  have hno : ∀ c2, c2 < 12 → c2 ≠ c → ∀ f2, (f2 = f ∨ ∃ cue l q, f2 = giF f cue (Int32.ofNat c) l q) → hlB f2 p c2 (lev (12 * was + c2)) = false := fun c2 h2 hne f2 hf2 => by
    cases e : hlB f2 p c2 (lev (12 * was + c2)) with
    | false => rfl
    | true =>
      obtain ⟨e1, e2, e3, e4⟩ := hlB_gv e
      rcases hf2 with rfl | ⟨cue, l, q, rfl⟩
      · exact absurd (hlv c2 h2 hne e1).symm e4
      · rw [giF_lo (by decide) (by decide)] at e1
        rw [gi_lv hD (by omega) hc h2 hne (p + 1) (by omega)] at e4
        exact absurd (hlv c2 h2 hne e1).symm e4
  intro t
  induction t with
  | zero => exact fun {c1} h => ⟨fun h2 => by omega, fun _ f2 _ => rfl⟩
  | succ t ih =>
    intro c1 h
    obtain ⟨i1, i2⟩ := ih (c1 := c1 + 1) (by omega)
    refine ⟨fun hle => ?_, fun hlt f2 hf2 => ?_⟩
    · show (_ || _, _) = _
      by_cases ec : c1 = c
      · subst ec
        rw [i2 (by omega) (hlF f p c1 (lev (12 * was + c1))) (by
          unfold hlF
          split
          · exact Or.inr ⟨_, _, _, rfl⟩
          · exact Or.inl rfl)]
        simp
      · have hb := hno c1 (by omega) ec f (Or.inl rfl)
        have hF : hlF f p c1 (lev (12 * was + c1)) = f := by unfold hlF; rw [if_neg (by rw [hb]; decide)]
        rw [hb, hF, i1 (by omega)]
        rfl
    · show (_ || _, _) = _
      have hb := hno c1 (by omega) (by omega) f2 hf2
      have hF : hlF f2 p c1 (lev (12 * was + c1)) = f2 := by unfold hlF; rw [if_neg (by rw [hb]; decide)]
      rw [hb, hF, i2 (by omega) f2 hf2]
      rfl
end EDITS2
