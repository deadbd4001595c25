/-! ===== an instruction comes or goes: the component's answer is the model's (plain) ===== -/
def edF (f : Nat → Int32) (p c : Nat) (o : Option (Int32 × Int32)) : Nat → Int32 := match o with
  | some e => giF f (f (18 + 12 * p)) (Int32.ofNat c) e.1 e.2
  | none => match gv f (f (18 + 12 * p)) (Int32.ofNat c) with
    | some k => tkF f k
    | none => f
def edG (f : Nat → Int32) (p c : Nat) (o : Option (Int32 × Int32)) (b : Bool) : Bool := b && hlB (edF f p c o) (p + 1) c (lvN f c (p + 2))
def edR (f : Nat → Int32) (p c : Nat) (o : Option (Int32 × Int32)) (b : Bool) : Nat → Int32 := if b then hlF (edF f p c o) (p + 1) c (lvN f c (p + 2)) else edF f p c o
/-- the reason why it is refused, or 0 -/
def edC (f : Nat → Int32) (p c : Nat) (o : Option (Int32 × Int32)) (b : Bool) : Nat := if f (18 + 12 * p + 3) = 1 ∨ edG f p c o b = true ∧ f (18 + 12 * (p + 1) + 3) = 1 then 1 else if 60 < u (edR f p c o b 1) then 2 else if o = none ∧ gv f (f (18 + 12 * p)) (Int32.ofNat c) = none then 3 else 0
section EDITS3
variable {f f1 g old : Nat → Int32} {i j k c c2 p was t : Nat} {had l q cue : Int32} {b : Bool} {o : Option (Int32 × Int32)}
theorem kl_at (hp : p + 1 < u (f 0)) (hc : c < 12) : klF f old (12 * u (f 0)) (12 * (p + 1) + c) = lvN f c (p + 2) := by
  unfold klF
  rw [if_pos (by omega), show (12 * (p + 1) + c) % 12 = c by omega, show (12 * (p + 1) + c) / 12 + 1 = p + 2 by omega]
theorem hdF_one (h0 : u (f 0) ≤ 12) (e0 : u (f1 0) = u (f 0)) (hp : p < u (f 0)) (hD : DsI f1) (hc : c < 12) (h60 : u (f1 1) ≤ 60) (hlv : ∀ c2, c2 < 12 → c2 ≠ c → p + 1 < u (f 0) → lvN f1 c2 (p + 2) = lvN f c2 (p + 2)) :
    (hlB f1 (p + 1) c (lvN f c (p + 2)) = false → hdF (klF f old (12 * u (f 0))) (p + 1) (p + 1) f1 = (0, f1)) ∧
    (hlB f1 (p + 1) c (lvN f c (p + 2)) = true → f1 (18 + 12 * (p + 1) + 3) = 1 → (hdF (klF f old (12 * u (f 0))) (p + 1) (p + 1) f1).1 = 1) ∧
    (hlB f1 (p + 1) c (lvN f c (p + 2)) = true → f1 (18 + 12 * (p + 1) + 3) ≠ 1 → u (hlF f1 (p + 1) c (lvN f c (p + 2)) 1) ≤ 60 → hdF (klF f old (12 * u (f 0))) (p + 1) (p + 1) f1 = (0, hlF f1 (p + 1) c (lvN f c (p + 2)))) ∧
    (hlB f1 (p + 1) c (lvN f c (p + 2)) = true → f1 (18 + 12 * (p + 1) + 3) ≠ 1 → 60 < u (hlF f1 (p + 1) c (lvN f c (p + 2)) 1) → (hdF (klF f old (12 * u (f 0))) (p + 1) (p + 1) f1).1 = 2) := by
  by_cases hlt : p + 1 < u (f 0)
  · have hW := (hdW_one (f := f1) (lev := klF f old (12 * u (f 0))) (p := p + 1) (was := p + 1) (c := c) hD (by omega) hc (by omega) (fun c2 h2 hne _ => by rw [kl_at hlt h2]; exact (hlv c2 h2 hne hlt).symm) (t := 12) (c1 := 0) rfl).1 (Nat.zero_le _)
    rw [kl_at hlt hc] at hW
    obtain ⟨i1, i2, i3, i4⟩ := hdF_W (f := f1) (lev := klF f old (12 * u (f 0))) (p := p + 1) (was := p + 1) (Or.inl (by omega)) h60
    rw [hW] at i1 i2 i3 i4
    exact ⟨fun e => (i1 e).1, i2, i3, i4⟩
  · have hb : ∀ had, hlB f1 (p + 1) c had = false := fun had => by
      cases e : hlB f1 (p + 1) c had with
      | false => rfl
      | true => exact absurd (e0 ▸ (hlB_gv e).1) hlt
    rw [hb]
    refine ⟨fun _ => ?_, fun e => (by cases e), fun e => (by cases e), fun e => (by cases e)⟩
    unfold hdF
    rw [if_neg (fun e => hlt (e0 ▸ e.1))]
theorem lvS_no (e : gv f (f (18 + 12 * k)) (Int32.ofNat c) = none) (e2 : isBl f k = false) : lvS f c k l = l := by
  unfold lvS
  rw [e, e2]
  rfl
theorem gvH_ed (hI : Inv f) (hp : p < u (f 0)) (hc : c < 12) (e : f (18 + 12 * p) = cue) : (gvH f old cue p c l q b).1 = edC f p c (some (l, q)) b ∧ (edC f p c (some (l, q)) b = 0 → (gvH f old cue p c l q b).2.1 = edR f p c (some (l, q)) b) := by
  have h60 := hI.2.1
  have h12 := hI.1
  have hD := DsI.of hI
  subst e
  have hF : edF f p c (some (l, q)) = giF f (f (18 + 12 * p)) (Int32.ofNat c) l q := rfl
  have hn3 : ¬ (some (l, q) = none ∧ gv f (f (18 + 12 * p)) (Int32.ofNat c) = none) := fun e => by cases e.1
  have hlo : ∀ j, j < 162 → j ≠ 1 → edF f p c (some (l, q)) j = f j := fun j h1 h2 => giF_lo h1 h2
  by_cases h1 : f (18 + 12 * p + 3) = 1
  · have hC : edC f p c (some (l, q)) b = 1 := if_pos (Or.inl h1)
    rw [hC]
    unfold gvH
    rw [if_pos h1]
    exact ⟨rfl, fun e => by cases e⟩
  · have hg1 : u (edF f p c (some (l, q)) 1) = if (gv f (f (18 + 12 * p)) (Int32.ofNat c)).isSome then u (f 1) else u (f 1) + 1 := giF_1w (by omega)
    by_cases h2 : u (f 1) = 60 ∧ gv f (f (18 + 12 * p)) (Int32.ofNat c) = none
    · have h61 : 60 < u (edR f p c (some (l, q)) b 1) := by
        rw [h2.2] at hg1
        simp only [Option.isSome_none] at hg1
        have h61 : u (edF f p c (some (l, q)) 1) = 61 := by rw [hg1, h2.1]; rfl
        unfold edR
        split
        · have := (hlF_1 (f := edF f p c (some (l, q))) (k := p + 1) (c := c) (had := lvN f c (p + 2)) (by omega)).1
          omega
        · omega
      have hG : edG f p c (some (l, q)) b = (b && (decide (p + 1 < u (f 0)) && (!isBl f (p + 1) && ((gv f (f (18 + 12 * (p + 1))) (Int32.ofNat c)).isNone && decide ((if l = -1 then f (6 + c) else l) ≠ lvN f c (p + 1)))))) := by
        unfold edG
        cases b with
        | false => rfl
        | true =>
          rw [Bool.true_and, Bool.true_and]
          by_cases hlt : p + 1 < u (f 0)
          · unfold hlB
            rw [hlo 0 (by decide) (by decide), hlo (18 + 12 * (p + 1)) (by omega) (by omega), show isBl (edF f p c (some (l, q))) (p + 1) = isBl f (p + 1) by unfold isBl; rw [hlo (18 + 12 * (p + 1) + 2) (by omega) (by omega)]]
            have hne : f (18 + 12 * (p + 1)) ≠ f (18 + 12 * p) := fun e => by
              have := hI.2.2.2.2.2 p (p + 1) (by omega) hlt
              rw [e] at this
              exact Int32.lt_irrefl this
            rw [hF, (gi_gv hD (by omega) (fun e => hne e.1)).1]
            cases hb : isBl f (p + 1) with
            | true => simp
            | false =>
              cases hgn : gv f (f (18 + 12 * (p + 1))) (Int32.ofNat c) with
              | some i => simp
              | none =>
                have e1 : lvN (giF f (f (18 + 12 * p)) (Int32.ofNat c) l q) c (p + 2) = if l = -1 then f (6 + c) else l := by
                  show lvS _ c (p + 1) (lvS _ c p _) = _
                  rw [lvS_no (by rw [giF_lo (by omega) (by omega), (gi_gv hD (by omega) (fun e => hne e.1)).1]; exact hgn) (by unfold isBl; rw [giF_lo (by omega) (by omega)]; exact hb)]
                  unfold lvS
                  rw [giF_lo (j := 18 + 12 * p) (by omega) (by omega), gi_same hD (by omega)]
                  obtain ⟨-, -, K2, -⟩ := giF_K (f := f) (cue := f (18 + 12 * p)) (ch := Int32.ofNat c) (lev := l) (part := q)
                  simp only [K2]
                  rw [giF_lo (by omega) (by omega)]
                have e2 : lvN f c (p + 2) = lvN f c (p + 1) := by
                  show lvS f c (p + 1) _ = _
                  rw [lvS_no hgn hb]
                rw [e1, e2]
                simp
          · have : hlB (edF f p c (some (l, q))) (p + 1) c (lvN f c (p + 2)) = false := by
              cases e : hlB (edF f p c (some (l, q))) (p + 1) c (lvN f c (p + 2)) with
              | false => rfl
              | true => exact absurd (by have := (hlB_gv e).1; rwa [hlo 0 (by decide) (by decide)] at this) hlt
            rw [this]
            simp [hlt]
      unfold gvH
      rw [if_neg h1, if_pos h2]
      have hC : edC f p c (some (l, q)) b = if edG f p c (some (l, q)) b = true ∧ f (18 + 12 * (p + 1) + 3) = 1 then 1 else 2 := by
        unfold edC
        by_cases h9 : edG f p c (some (l, q)) b = true ∧ f (18 + 12 * (p + 1) + 3) = 1
        · rw [if_pos h9, if_pos (Or.inr h9)]
        · rw [if_neg h9, if_neg (by rintro (h | h); exact h1 h; exact h9 h), if_pos h61]
      refine ⟨?_, fun e => ?_⟩
      · rw [hC, hG]
        show (if _ then _ else _) = _
        cases b with
        | false => simp
        | true =>
          by_cases a1 : p + 1 < u (f 0) <;> by_cases a2 : f (18 + 12 * (p + 1) + 3) = 1 <;> cases a3 : isBl f (p + 1) <;> cases a4 : (gv f (f (18 + 12 * (p + 1))) (Int32.ofNat c)).isNone <;> by_cases a5 : (if l = -1 then f (6 + c) else l) = lvN f c (p + 1) <;> simp [a1, a2, a5]
      · rw [hC] at e
        split at e <;> cases e
    · have h60e : u (edF f p c (some (l, q)) 1) ≤ 60 := by
        rw [hg1]
        cases e : gv f (f (18 + 12 * p)) (Int32.ofNat c) with
        | none =>
          have : u (f 1) ≠ 60 := fun h => h2 ⟨h, e⟩
          simp only [Option.isSome_none]
          show u (f 1) + 1 ≤ 60
          omega
        | some k => exact h60
      unfold gvH
      rw [if_neg h1, if_neg h2]
      cases b with
      | false =>
        have hC : edC f p c (some (l, q)) false = 0 := by
          unfold edC
          rw [if_neg (by rintro (h | h); exact h1 h; exact absurd h.1 (by unfold edG; simp)), if_neg (by show ¬ 60 < u (edF f p c (some (l, q)) 1); omega), if_neg hn3]
        rw [hC]
        exact ⟨rfl, fun _ => rfl⟩
      | true =>
        obtain ⟨i1, i2, i3, i4⟩ := hdF_one (f := f) (f1 := edF f p c (some (l, q))) (old := old) (p := p) (c := c) h12 (by rw [hlo 0 (by decide) (by decide)]) hp (gi_ds hD (by omega)) hc h60e (fun c2 h3 hne hlt => gi_lv hD (by omega) hc h3 hne (p + 2) (by omega))
        have hG : edG f p c (some (l, q)) true = hlB (edF f p c (some (l, q))) (p + 1) c (lvN f c (p + 2)) := rfl
        have hR : edR f p c (some (l, q)) true = hlF (edF f p c (some (l, q))) (p + 1) c (lvN f c (p + 2)) := rfl
        have hpr : edF f p c (some (l, q)) (18 + 12 * (p + 1) + 3) = f (18 + 12 * (p + 1) + 3) ∨ ¬ p + 1 < u (f 0) := by
          by_cases hlt : p + 1 < u (f 0)
          · exact Or.inl (hlo _ (by omega) (by omega))
          · exact Or.inr hlt
        show (hdF (klF f old (12 * u (f 0))) (p + 1) (p + 1) (edF f p c (some (l, q)))).1 = _ ∧ (_ → (hdF (klF f old (12 * u (f 0))) (p + 1) (p + 1) (edF f p c (some (l, q)))).2 = _)
        rw [hR]
        cases hB : hlB (edF f p c (some (l, q))) (p + 1) c (lvN f c (p + 2)) with
        | false =>
          have hF2 : hlF (edF f p c (some (l, q))) (p + 1) c (lvN f c (p + 2)) = edF f p c (some (l, q)) := by unfold hlF; rw [if_neg (by rw [hB]; decide)]
          rw [i1 hB, hF2]
          have hC : edC f p c (some (l, q)) true = 0 := by
            unfold edC
            rw [if_neg (by rw [hG, hB]; rintro (h | h); exact h1 h; exact absurd h.1 (by decide)), if_neg (by rw [hR, hF2]; omega), if_neg hn3]
          rw [hC]
          exact ⟨rfl, fun _ => rfl⟩
        | true =>
          have hlt : p + 1 < u (f 0) := by have := (hlB_gv hB).1; rwa [hlo 0 (by decide) (by decide)] at this
          have hpr2 := hpr.resolve_right (fun h => h hlt)
          by_cases h3 : f (18 + 12 * (p + 1) + 3) = 1
          · have hC : edC f p c (some (l, q)) true = 1 := if_pos (Or.inr ⟨by rw [hG, hB], h3⟩)
            rw [hC, i2 hB (by rw [hpr2]; exact h3)]
            exact ⟨rfl, fun e => by cases e⟩
          · have hno : ¬ (f (18 + 12 * p + 3) = 1 ∨ edG f p c (some (l, q)) true = true ∧ f (18 + 12 * (p + 1) + 3) = 1) := by rintro (h | h); exact h1 h; exact h3 h.2
            by_cases h4 : 60 < u (hlF (edF f p c (some (l, q))) (p + 1) c (lvN f c (p + 2)) 1)
            · have hC : edC f p c (some (l, q)) true = 2 := by
                unfold edC
                rw [if_neg hno, if_pos (by rw [hR]; exact h4)]
              rw [hC, i4 hB (by rw [hpr2]; exact h3) h4]
              exact ⟨rfl, fun e => by cases e⟩
            · have hC : edC f p c (some (l, q)) true = 0 := by
                unfold edC
                rw [if_neg hno, if_neg (by rw [hR]; exact h4), if_neg hn3]
              rw [hC, i3 hB (by rw [hpr2]; exact h3) (by omega)]
              exact ⟨rfl, fun _ => rfl⟩
theorem tkH_ed (hI : Inv f) (hp : p < u (f 0)) (hc : c < 12) (e : f (18 + 12 * p) = cue) : (tkH f old cue p c b).1 = edC f p c none b ∧ (edC f p c none b = 0 → (tkH f old cue p c b).2.1 = edR f p c none b) := by
  have h60 := hI.2.1
  have h12 := hI.1
  have hD := DsI.of hI
  subst e
  by_cases h1 : f (18 + 12 * p + 3) = 1
  · have hC : edC f p c none b = 1 := if_pos (Or.inl h1)
    rw [hC]
    unfold tkH
    rw [if_pos h1]
    exact ⟨rfl, fun e => by cases e⟩
  · unfold tkH
    rw [if_neg h1]
    cases hg : gv f (f (18 + 12 * p)) (Int32.ofNat c) with
    | none =>
      have hF : edF f p c none = f := by unfold edF; rw [hg]
      have hB : hlB f (p + 1) c (lvN f c (p + 2)) = false := by
        cases e : hlB f (p + 1) c (lvN f c (p + 2)) with
        | false => rfl
        | true => exact absurd rfl (hlB_gv e).2.2.2
      have hG : edG f p c none b = false := by unfold edG; rw [hF, hB]; cases b <;> rfl
      have hR : edR f p c none b = f := by
        unfold edR
        rw [hF]
        unfold hlF
        rw [hB]
        cases b <;> rfl
      have hC : edC f p c none b = 3 := by
        unfold edC
        rw [hG, hR, if_neg (by rintro (h | h); exact h1 h; exact absurd h.1 (by decide)), if_neg (by omega), if_pos ⟨rfl, hg⟩]
      rw [hC]
      exact ⟨rfl, fun e => by cases e⟩
    | some k =>
      have hF : edF f p c none = tkF f k := by unfold edF; rw [hg]
      have hk := (gv_some hg).1
      have hlo : ∀ j, j < 162 → j ≠ 1 → tkF f k j = f j := fun j h1 h2 => tkF_lo (by omega) h2
      have hn3 : ¬ ((none : Option (Int32 × Int32)) = none ∧ gv f (f (18 + 12 * p)) (Int32.ofNat c) = none) := fun e => by rw [hg] at e; cases e.2
      have h59 : u (tkF f k 1) = u (f 1) - 1 := tkF_1v (by omega)
      cases b with
      | false =>
        have hC : edC f p c none false = 0 := by
          unfold edC
          rw [if_neg (by rintro (h | h); exact h1 h; exact absurd h.1 (by unfold edG; simp)), if_neg (by show ¬ 60 < u (edF f p c none 1); rw [hF]; omega), if_neg hn3]
        rw [hC]
        exact ⟨rfl, fun _ => by show tkF f k = edF f p c none; rw [hF]⟩
      | true =>
        obtain ⟨i1, i2, i3, i4⟩ := hdF_one (f := f) (f1 := tkF f k) (old := old) (p := p) (c := c) h12 (by rw [hlo 0 (by decide) (by decide)]) hp (tk_ds hD (by omega)) hc (by omega) (fun c2 h3 hne hlt => tk_lv hD (by omega) hg hc h3 hne (p + 2) (by omega))
        have hG : edG f p c none true = hlB (tkF f k) (p + 1) c (lvN f c (p + 2)) := by unfold edG; rw [hF]; rfl
        have hR : edR f p c none true = hlF (tkF f k) (p + 1) c (lvN f c (p + 2)) := by unfold edR; rw [hF]; rfl
        show (hdF (klF f old (12 * u (f 0))) (p + 1) (p + 1) (tkF f k)).1 = _ ∧ (_ → (hdF (klF f old (12 * u (f 0))) (p + 1) (p + 1) (tkF f k)).2 = _)
        rw [hR]
        have hR1 := (hlF_1 (f := tkF f k) (k := p + 1) (c := c) (had := lvN f c (p + 2)) (by omega)).2
        cases hB : hlB (tkF f k) (p + 1) c (lvN f c (p + 2)) with
        | false =>
          have hF2 : hlF (tkF f k) (p + 1) c (lvN f c (p + 2)) = tkF f k := by unfold hlF; rw [if_neg (by rw [hB]; decide)]
          rw [i1 hB, hF2]
          have hC : edC f p c none true = 0 := by
            unfold edC
            rw [if_neg (by rw [hG, hB]; rintro (h | h); exact h1 h; exact absurd h.1 (by decide)), if_neg (by rw [hR, hF2]; omega), if_neg hn3]
          rw [hC]
          exact ⟨rfl, fun _ => rfl⟩
        | true =>
          have hlt : p + 1 < u (f 0) := by have := (hlB_gv hB).1; rwa [hlo 0 (by decide) (by decide)] at this
          have hpr2 : tkF f k (18 + 12 * (p + 1) + 3) = f (18 + 12 * (p + 1) + 3) := hlo _ (by omega) (by omega)
          by_cases h3 : f (18 + 12 * (p + 1) + 3) = 1
          · have hC : edC f p c none true = 1 := if_pos (Or.inr ⟨by rw [hG, hB], h3⟩)
            rw [hC, i2 hB (by rw [hpr2]; exact h3)]
            exact ⟨rfl, fun e => by cases e⟩
          · have hno : ¬ (f (18 + 12 * p + 3) = 1 ∨ edG f p c none true = true ∧ f (18 + 12 * (p + 1) + 3) = 1) := by rintro (h | h); exact h1 h; exact h3 h.2
            have hC : edC f p c none true = 0 := by
              unfold edC
              rw [if_neg hno, if_neg (by rw [hR]; omega), if_neg hn3]
            rw [hC, i3 hB (by rw [hpr2]; exact h3) (by omega)]
            exact ⟨rfl, fun _ => rfl⟩
/-! instructions of a cue go, one after another -/
def rowN (f : Nat → Int32) (i : Nat) : Int32 × Int32 × Int32 × Int32 := (f (162 + 4 * i), f (162 + 4 * i + 1), f (162 + 4 * i + 2), f (162 + 4 * i + 3))
def rows (f : Nat → Int32) : List (Int32 × Int32 × Int32 × Int32) := (List.range (u (f 1))).map (rowN f)
theorem rows_get : (rows f)[i]? = if i < u (f 1) then some (rowN f i) else none := by
  unfold rows
  rw [List.getElem?_map]
  by_cases h : i < u (f 1)
  · rw [List.getElem?_range h, if_pos h]; rfl
  · rw [List.getElem?_eq_none (by simpa using h), if_neg h]; rfl
theorem rows_tk (h : u (f 1) ≤ 75) (hk : k < u (f 1)) : rows (tkF f k) = (rows f).take k ++ (rows f).drop (k + 1) := by
  have hl : (rows f).length = u (f 1) := by simp [rows]
  apply List.ext_getElem?
  intro i
  rw [rows_get, tkF_1v h]
  have hat : i < u (f 1) - 1 → rowN (tkF f k) i = if i < k then rowN f i else rowN f (i + 1) := fun hi => by
    have a0 := tkF_at (f := f) (k := k) (i := i) (r := 0) (by decide) hi
    have a1 := tkF_at (f := f) (k := k) (i := i) (r := 1) (by decide) hi
    have a2 := tkF_at (f := f) (k := k) (i := i) (r := 2) (by decide) hi
    have a3 := tkF_at (f := f) (k := k) (i := i) (r := 3) (by decide) hi
    simp only [Nat.add_zero] at a0
    unfold rowN
    rw [a0, a1, a2, a3]
    split <;> rfl
  by_cases hi : i < u (f 1) - 1
  · rw [if_pos hi, hat hi]
    by_cases h9 : i < k
    · rw [if_pos h9, List.getElem?_append_left (by rw [List.length_take]; omega), List.getElem?_take_of_lt h9, rows_get, if_pos (by omega)]
    · rw [if_neg h9, List.getElem?_append_right (by rw [List.length_take]; omega), List.length_take, List.getElem?_drop, rows_get, if_pos (by omega)]
      congr 2
      omega
  · rw [if_neg hi, List.getElem?_eq_none]
    rw [List.length_append, List.length_take, List.length_drop]
    omega
theorem rows_rm {cue : Int32} : ∀ {k : Nat} {f : Nat → Int32}, u (f 1) ≤ 75 → k ≤ u (f 1) → rows (rmg cue k f) = ((rows f).take k).filter (fun e => !decide (e.1 = cue)) ++ (rows f).drop k
  | 0, f, _, _ => by simp [rmg]
  | k + 1, f, h, hk => by
    have hl : (rows f).length = u (f 1) := by simp [rows]
    have hrow : (rows f)[k]? = some (rowN f k) := by rw [rows_get, if_pos (by omega)]
    have ht : (rows f).take (k + 1) = (rows f).take k ++ [rowN f k] := by rw [List.take_add_one, hrow]; rfl
    have hd : (rows f).drop k = rowN f k :: (rows f).drop (k + 1) := by
      rw [List.drop_eq_getElem_cons (by omega)]
      congr 1
      exact Option.some.inj ((List.getElem?_eq_getElem (by omega)).symm.trans hrow)
    unfold rmg
    by_cases hc : f (162 + 4 * k) = cue
    · rw [if_pos hc, rows_rm (k := k) (f := tkF f k) (by rw [tkF_1v h]; omega) (by rw [tkF_1v h]; omega), rows_tk h (by omega), ht]
      rw [List.take_append_of_le_length (by rw [List.length_take]; omega), List.take_take, Nat.min_self, List.filter_append, List.drop_append_of_le_length (by rw [List.length_take]; omega)]
      have : List.drop k (List.take k (rows f)) = [] := List.drop_eq_nil_of_le (by rw [List.length_take]; omega)
      rw [this]
      have h9 : [rowN f k].filter (fun e => !decide (e.1 = cue)) = [] := by simp [rowN, hc]
      rw [h9, List.append_nil, List.nil_append]
    · rw [if_neg hc, rows_rm (k := k) (f := f) h (by omega), ht, List.filter_append, hd]
      have h9 : [rowN f k].filter (fun e => !decide (e.1 = cue)) = [rowN f k] := by simp [rowN, hc]
      rw [h9, List.append_assoc]
      rfl
theorem rows_all {cue : Int32} (h : u (f 1) ≤ 75) : rows (rmg cue (u (f 1)) f) = (rows f).filter (fun e => !decide (e.1 = cue)) := by
  have hl : (rows f).length = u (f 1) := by simp [rows]
  rw [rows_rm h (Nat.le_refl _), List.take_of_length_le (by omega), List.drop_eq_nil_of_le (by omega), List.append_nil]
end EDITS3
