/-! ===== CueStackModel: read ===== -/
abbrev RS : Type := Nat × Bool × Nat × (Nat → Int32) × (Nat → Int32)
def rdS (inp : Nat → Int32) (L : Nat) (s : RS) : RS := ((reF inp L s.1 s.2.2.1 s.2.2.2.2).1, (reF inp L s.1 s.2.2.1 s.2.2.2.2).2.1, s.2.2.1 + 1, upd s.2.2.2.1 s.2.2.1 (reK inp L s.1), (reF inp L s.1 s.2.2.1 s.2.2.2.2).2.2)
def rdG (inp : Nat → Int32) (L : Nat) : Nat → RS → RS
  | 0, s => s
  | t + 1, s => if s.2.1 = false ∧ s.1 < L then rdG inp L t (rdS inp L s) else s
def rdA (inp : Nat → Int32) (L : Nat) (K N : Nat → Int32) : RS := rdG inp L 60 (rdS inp L (0, false, 0, K, N))
/-- what holds behind every entry -/
def rdI (L : Nat) (s : RS) : Prop := s.1 ≤ L ∧ 0 < s.2.2.1 ∧ s.2.2.1 ≤ 60 ∧ (s.2.1 = false → s.2.2.1 ≤ s.1 ∧ ∀ j, j < s.2.2.1 → sgB (s.2.2.2.1 j) = true)
theorem snT_ge {inp : Nat → Int32} {L p : Nat} {w : Bool} {c : Int32} : p ≤ (snT inp L c p w).1 := by
  unfold snT
  show p ≤ (if _ then _ else _)
  split
  · exact Nat.le_succ _
  · exact Nat.le_refl _
theorem ngT_ge {inp : Nat → Int32} {L : Nat} {w : Bool} : ∀ {t p : Nat} {a : Int32}, p ≤ (ngT inp L w t p a).2
  | 0, _, _ => Nat.le_refl _
  | t + 1, p, a => by
    unfold ngT
    split
    · exact Nat.le_of_succ_le ngT_ge
    · exact Nat.le_refl _
theorem nuT_ge {inp : Nat → Int32} {L dg p : Nat} {w : Bool} : p ≤ (nuT inp L dg p w).2.1 := ngT_ge
theorem bhT_ge {inp : Nat → Int32} {L dg p : Nat} {w : Bool} {c : Int32} : p ≤ (bhT inp L c dg p w).2.1 := Nat.le_trans snT_ge nuT_ge
theorem reK_lt {inp : Nat → Int32} {L p : Nat} (h : sgB (reK inp L p) = true) : p < L := by
  unfold reK at h
  split at h
  · assumption
  · exact absurd h (by decide)
theorem reD_ge {inp : Nat → Int32} {L p E : Nat} {N : Nat → Int32} (h : p ≤ L) : p ≤ (reD inp L p E N).1 ∧ (reD inp L p E N).1 ≤ L := by
  have a : p ≤ (reA inp L p (reK inp L p) E N).1 ∧ (reA inp L p (reK inp L p) E N).1 ≤ L := by
    unfold reA
    split
    · rename_i e
      exact ⟨Nat.le_of_succ_le nuT_ge, nuT_le (reK_lt e.1)⟩
    · show p ≤ (if _ then _ else _) ∧ (if _ then _ else _) ≤ L
      split
      · rename_i e
        exact ⟨Nat.le_succ _, reK_lt e⟩
      · exact ⟨Nat.le_refl _, h⟩
  have b : ∀ s : Nat × Bool × (Nat → Int32), p ≤ s.1 ∧ s.1 ≤ L → p ≤ (reB inp L (reK inp L p) E s).1 ∧ (reB inp L (reK inp L p) E s).1 ≤ L := by
    intro s hs
    unfold reB
    split
    · exact ⟨Nat.le_trans hs.1 bhT_ge, nuT_le (snT_le hs.2)⟩
    · exact hs
  have c : ∀ s : Nat × Bool × (Nat → Int32), p ≤ s.1 ∧ s.1 ≤ L → p ≤ (reC inp L (reK inp L p) E s).1 ∧ (reC inp L (reK inp L p) E s).1 ≤ L := by
    intro s hs
    unfold reC
    split
    · exact ⟨Nat.le_trans hs.1 bhT_ge, nuT_le (snT_le hs.2)⟩
    · exact hs
  exact c _ (b _ a)
theorem snT_no {inp : Nat → Int32} {L p : Nat} {w : Bool} {c : Int32} (h : (snT inp L c p w).2 = false) : (snT inp L c p w).1 = p + 1 ∧ w = false ∧ p < L := by
  unfold snT at h ⊢
  have h : hrB inp L p w c c = true := by
    cases e : hrB inp L p w c c with
    | true => rfl
    | false => rw [e] at h; cases h
  refine ⟨if_pos h, ?_, hrB_lt h⟩
  unfold hrB at h
  cases w
  · rfl
  · cases h
theorem reF_ok {inp : Nat → Int32} {L p E : Nat} {N : Nat → Int32} (h : p ≤ L) : (reF inp L p E N).1 ≤ L ∧ ((reF inp L p E N).2.1 = false → p + 1 ≤ (reF inp L p E N).1 ∧ sgB (reK inp L p) = true) := by
  have hD := reD_ge (inp := inp) (E := E) (N := N) h
  refine ⟨snT_le hD.2, fun e => ?_⟩
  obtain ⟨e1, e2, e3⟩ := snT_no (show (snT inp L 59 (reD inp L p E N).1 (reD inp L p E N).2.1).2 = false from e)
  refine ⟨by show p + 1 ≤ (snT inp L 59 (reD inp L p E N).1 (reD inp L p E N).2.1).1; rw [e1]; omega, ?_⟩
  cases es : sgB (reK inp L p) with
  | true => rfl
  | false =>
    have n1 : ¬ reK inp L p = 115 := fun q => by rw [q] at es; exact absurd es (by decide)
    have n2 : ¬ reK inp L p = 114 := fun q => by rw [q] at es; exact absurd es (by decide)
    have ed : reD inp L p E N = (p, true, N) := by
      unfold reD reC
      rw [if_neg n1]
      unfold reB
      rw [if_neg (fun q => q.elim n1 n2)]
      unfold reA
      rw [if_neg (fun q => by rw [es] at q; exact absurd q.1 (by decide)), es]
      rfl
    rw [ed] at e2
    cases e2
theorem rdS_ok {inp : Nat → Int32} {L : Nat} (hL : L ≤ 60) {s : RS} (h1 : s.1 ≤ L) (h2 : s.2.1 = false) (h3 : s.2.2.1 = 0 ∨ s.1 < L) (h4 : s.2.2.1 ≤ s.1 ∧ ∀ j, j < s.2.2.1 → sgB (s.2.2.2.1 j) = true) : rdI L (rdS inp L s) := by
  obtain ⟨a, b⟩ := reF_ok (inp := inp) (E := s.2.2.1) (N := s.2.2.2.2) h1
  refine ⟨a, Nat.succ_pos _, by show s.2.2.1 + 1 ≤ 60; omega, fun e => ?_⟩
  obtain ⟨c, d⟩ := b e
  refine ⟨by show s.2.2.1 + 1 ≤ (reF inp L s.1 s.2.2.1 s.2.2.2.2).1; have := h4.1; omega, fun j hj => ?_⟩
  show sgB (upd s.2.2.2.1 s.2.2.1 (reK inp L s.1) j) = true
  by_cases ej : j = s.2.2.1
  · rw [ej, upd_s]; exact d
  · rw [upd_o _ _ ej]
    refine h4.2 j ?_
    have : j < s.2.2.1 + 1 := hj
    omega
theorem TX_0 (σ : MS) : mV (mV (mV σ 11 (Int32.ofNat 0)) 12 (Int32.ofNat 0)) 16 (Int32.ofNat 0) = TX σ 0 false 0 (σ.1 14) (σ.1 15) := by
  unfold mV TX
  refine Prod.ext ?_ ?_
  · funext k
    show σ.1 k = if k = 14 then _ else if k = 15 then _ else _
    by_cases e : k = 14
    · rw [if_pos e, e]
    · rw [if_neg e]
      by_cases e2 : k = 15
      · rw [if_pos e2, e2]
      · rw [if_neg e2]
  · funext k
    show (if k = 16 then Int32.ofNat 0 else if k = 12 then Int32.ofNat 0 else if k = 11 then Int32.ofNat 0 else σ.2 k) = (if k = 11 then Int32.ofNat 0 else if k = 12 then bI false else if k = 16 then Int32.ofNat 0 else σ.2 k)
    by_cases e : k = 16
    · rw [if_pos e, if_neg (by omega), if_neg (by omega), if_pos e]
    · by_cases e2 : k = 12
      · rw [if_neg e, if_pos e2, if_neg (by omega), if_pos e2]; rfl
      · rw [if_neg e, if_neg e2, if_neg e2, if_neg e]
/-- the entries are done, one after the other -/
def exG (K N : Nat → Int32) : Nat → Nat → (Nat → Int32) → MS → Bool × (Nat → Int32) × MS
  | 0, _, f, σ => (false, f, σ)
  | t + 1, k, f, σ => if (flE f σ (K k) (N (3 * k)) (N (3 * k + 1)) (N (3 * k + 2))).1 then (true, (flE f σ (K k) (N (3 * k)) (N (3 * k + 1)) (N (3 * k + 2))).2) else exG K N t (k + 1) (flE f σ (K k) (N (3 * k)) (N (3 * k + 1)) (N (3 * k + 2))).2.1 (flE f σ (K k) (N (3 * k)) (N (3 * k + 1)) (N (3 * k + 2))).2.2
/-- what read leaves ahead of the entries' work -/
def rdM (f : Nat → Int32) (σ : MS) (s : RS) : MS := mA (mV (mV (mV (TX σ s.1 s.2.1 s.2.2.1 s.2.2.2.1 s.2.2.2.2) 10 (Int32.ofNat 0)) 13 (if s.2.1 then Int32.ofNat s.1 else σ.2 13)) 7 (bI s.2.1)) 1 f
def O_readS (f : Nat → Int32) (σ : MS) (s : RS) : OO :=
  if s.2.1 then (1, 0, f, rdM f σ s) else
  if (exG s.2.2.2.1 s.2.2.2.2 s.2.2.1 0 f (rdM f σ s)).1 then (2, 0, f, mV (exG s.2.2.2.1 s.2.2.2.2 s.2.2.1 0 f (rdM f σ s)).2.2 7 (Int32.ofNat 2))
  else (0, Int32.ofNat s.2.2.1, (exG s.2.2.2.1 s.2.2.2.2 s.2.2.1 0 f (rdM f σ s)).2.1, chg (exG s.2.2.2.1 s.2.2.2.2 s.2.2.1 0 f (rdM f σ s)).2.2)
def O_read (f : Nat → Int32) (σ : MS) : OO := O_readS f σ (rdA (σ.1 9) (u (σ.2 10)) (σ.1 14) (σ.1 15))
/-- doing an entry keeps all but the levels and the reason -/
def sqK (σ σ2 : MS) : Prop := (∀ i, i ≠ 8 → σ2.1 i = σ.1 i) ∧ ∀ i, i ≠ 6 → σ2.2 i = σ.2 i
theorem sqK.rfl {σ : MS} : sqK σ σ := ⟨fun _ _ => Eq.refl _, fun _ _ => Eq.refl _⟩
theorem sqK.A {σ : MS} (g : Nat → Int32) : sqK σ (mA σ 8 g) := ⟨fun i h => if_neg h, fun _ _ => Eq.refl _⟩
theorem sqK.V {σ σ2 : MS} (h : sqK σ σ2) (v : Int32) : sqK σ (mV σ2 6 v) := ⟨h.1, fun i hi => (if_neg hi).trans (h.2 i hi)⟩
theorem dGi_keep {f : Nat → Int32} {σ : MS} {cue lev part : Int32} {p c : Nat} {b : Bool} : sqK σ (dGi f σ cue p c lev part b).2.2 := by
  unfold dGi
  split
  · exact sqK.V (sqK.A _) _
  · exact sqK.A _
theorem dRm_keep {f : Nat → Int32} {σ : MS} {cue : Int32} {b : Bool} : sqK σ (dRm f σ cue b).2.2 := by
  unfold dRm
  split
  · exact sqK.rfl
  · split
    · exact sqK.V sqK.rfl _
    · split
      · split
        · exact sqK.V (sqK.A _) _
        · exact sqK.A _
      · exact sqK.A _
theorem dGo_keep {f : Nat → Int32} {σ : MS} {b : Bool} : sqK σ (dGo f σ b).2.2 := by
  by_cases e : dGq f b = 0
  · rw [dGo_pos e]; exact sqK.V sqK.rfl _
  · rw [dGo_neg e]; exact sqK.rfl
theorem flE_keep {f : Nat → Int32} {σ : MS} {k a b lv : Int32} : sqK σ (flE f σ k a b lv).2.2 := by
  unfold flE
  split
  · exact sqK.rfl
  · split
    · exact dRm_keep
    · split
      · split
        · exact sqK.rfl
        · split
          · exact sqK.rfl
          · split
            · exact sqK.rfl
            · exact dGi_keep
      · split
        · split
          · exact sqK.rfl
          · split
            · exact sqK.rfl
            · exact dGi_keep
        · split
          · exact dGo_keep
          · split
            · split <;> exact sqK.rfl
            · exact sqK.rfl
