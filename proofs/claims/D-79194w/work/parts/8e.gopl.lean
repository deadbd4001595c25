/-! ===== going and passing: numbers (plain) ===== -/
def gz (f : Nat → Int32) : Nat → Int32 := fun j => f (402 + j)
/-- a show in the model's own form -/
def ShowN (G : GG) (h : AH) (F : Nat → Nat → Value) (O : Nat → Prop) (s : Nat) (A : SA) (f : Nat → Int32) : Prop := u (f 1) ≤ 60 ∧ ShowR G h F O s A f (gz f)
def Srt (f : Nat → Int32) : Prop := ∀ j k, j < k → k < u (f 0) → f (18 + 12 * j) < f (18 + 12 * k)
section GOPL
variable {G : GG} {h h2 : AH} {F F2 : Nat → Nat → Value} {s c k i j p q a t : Nat} {A : SA} {f g f2 g2 : Nat → Int32} {O P : Nat → Prop} {v cue : Int32}
theorem Srt.of (hI : Inv f) : Srt f := hI.2.2.2.2.2
theorem gsN_eqv2 (h2 : u (f 1) ≤ 60) (hc : c < 12) (hk : k ≤ 12) {c1 : Nat} : lvN (gsN f cue p c1) c k = lvN f c k := (Eqv.lvN (gsN_eqv (f := f) (cue := cue) (p := p) (c := c1)) h2 hc hk).symm
theorem gsN_gN (hI : Inv f) (hp : p < 12) : ∀ {c : Nat}, c ≤ 12 → ∀ j, gsN f (f (18 + 12 * p)) p c (402 + j) = gN f (gz f) p c j
  | 0, _, j => rfl
  | c + 1, hc, j => by
    have ih := gsN_gN hI hp (c := c) (by omega)
    have h2 := hI.2.1
    show gsS (gsN f (f (18 + 12 * p)) p c) (f (18 + 12 * p)) p c (402 + j) = gS f (gN f (gz f) p c) p c j
    unfold gsS gS
    rw [gsN_eqv2 h2 (by omega) (by omega), show 402 + 5 * c + 1 = 402 + (5 * c + 1) by omega, ih]
    by_cases e : lvN f c (p + 1) = gN f (gz f) p c (5 * c + 1)
    · rw [if_pos e, if_pos e, ih]
    · rw [if_neg e, if_neg e]
      have hpt : ptO (gsN f (f (18 + 12 * p)) p c) (f (18 + 12 * p)) c = ptO f (f (18 + 12 * p)) c := (Eqv.ptO (gsN_eqv (f := f) (cue := f (18 + 12 * p)) (p := p) (c := c)) h2 _ _).symm
      have hnow : nowF (gsN f (f (18 + 12 * p)) p c) c = nowG (gN f (gz f) p c) c := by
        unfold nowF nowG
        rw [show 402 + 5 * c + 1 = 402 + (5 * c + 1) by omega, show 402 + 5 * c + 2 = 402 + (5 * c + 2) by omega, show 402 + 5 * c + 3 = 402 + (5 * c + 3) by omega, show 402 + 5 * c + 4 = 402 + (5 * c + 4) by omega, ih, ih, ih, ih, ih]
      have hlt := ptO_lt hI (f (18 + 12 * p)) c
      rw [hpt, hnow, gsN_lo (j := 18 + 12 * p + 4 + 2 * ptO f (f (18 + 12 * p)) c) (by omega), gsN_lo (j := 18 + 12 * p + 4 + 2 * ptO f (f (18 + 12 * p)) c + 1) (by omega)]
      by_cases a0 : j = 5 * c
      · simp only [upd]; repeat (first | rw [if_pos (by omega)] | rw [if_neg (by omega)])
      · by_cases a1 : j = 5 * c + 1
        · simp only [upd]; repeat (first | rw [if_pos (by omega)] | rw [if_neg (by omega)])
        · by_cases a2 : j = 5 * c + 2
          · simp only [upd]; repeat (first | rw [if_pos (by omega)] | rw [if_neg (by omega)])
          · by_cases a3 : j = 5 * c + 3
            · simp only [upd]; repeat (first | rw [if_pos (by omega)] | rw [if_neg (by omega)])
            · by_cases a4 : j = 5 * c + 4
              · simp only [upd]; repeat (first | rw [if_pos (by omega)] | rw [if_neg (by omega)])
              · rw [upd_o _ _ (by omega), upd_o _ _ (by omega), upd_o _ _ (by omega), upd_o _ _ (by omega), upd_o _ _ (by omega), upd_o _ _ (by omega), upd_o _ _ (by omega), upd_o _ _ (by omega), upd_o _ _ (by omega), upd_o _ _ (by omega)]
                exact ih j
theorem gsC_gC (hI : Inv f) (hp : p < 12) : ∀ {c : Nat}, c ≤ 12 → gsC f (f (18 + 12 * p)) p c = gC f (gz f) p c
  | 0, _ => rfl
  | c + 1, hc => by
    have ih := gsC_gC hI hp (c := c) (by omega)
    have h2 := hI.2.1
    show (if _ then _ else _) = gC f (gz f) p c + (if _ then _ else _)
    rw [gsN_eqv2 h2 (by omega) (by omega), show 402 + 5 * c + 1 = 402 + (5 * c + 1) by omega, gsN_gN hI hp (by omega), ih]
    split
    · exact (Int32.add_zero _).symm
    · rfl
/-- after a cue went -/
theorem ShowR.goN (hI : Inv f) (hp : p < u (f 0)) (S : ShowR G h F O s A (goW f p) (gN f (gz f) p 12)) : ShowN G h F O s A (goF f (f (18 + 12 * p)) p) := by
  have h12 := hI.1
  have h60 := hI.2.1
  have e1 : goF f (f (18 + 12 * p)) p 1 = f 1 := by unfold goF; rw [upd_o _ _ (by omega), upd_o _ _ (by omega), upd_o _ _ (by omega), gsN_lo (by omega)]
  have ew : goW f p 1 = f 1 := by unfold goW; rw [upd_o _ _ (by omega), upd_o _ _ (by omega), upd_o _ _ (by omega)]
  have hj : ∀ j, j < 402 → goF f (f (18 + 12 * p)) p j = goW f p j := fun j hj => by
    unfold goF goW
    simp only [upd, gsN_lo (f := f) (cue := f (18 + 12 * p)) (p := p) (c := 12) (show 4 < 402 by decide), gsN_lo (f := f) (cue := f (18 + 12 * p)) (p := p) (c := 12) hj]
  refine ⟨by rw [e1]; exact h60, S.cg (fun j h9 => hj j (by omega)) (fun j h1 h2 => hj j (by rw [ew] at h2; omega)) fun j hj => ?_⟩
  unfold gz goF
  rw [upd_o _ _ (by omega), upd_o _ _ (by omega), upd_o _ _ (by omega)]
  exact gsN_gN hI (by omega) (Nat.le_refl _) j
/-- what following answers -/
def foW (f : Nat → Int32) : Int32 := match pl f (f 2) with
  | none => -1
  | some p => if p + 1 = u (f 0) then -1 else f (18 + 12 * p + 1)
theorem nxJ_is (hS : Srt f) (hp : p < u (f 0)) (e : f (18 + 12 * p) = v) : ∀ {t k : Nat}, k + t = u (f 0) → k ≤ p + 1 → nxJ f v t k = p + 1
  | 0, k, h, hk => by show k = p + 1; omega
  | t + 1, k, h, hk => by
    unfold nxJ
    by_cases h1 : k = p + 1
    · subst h1
      rw [if_pos (by rw [← e]; exact hS p (p + 1) (by omega) (by omega))]
    · rw [if_neg ?_]
      · exact nxJ_is hS hp e (by omega) (by omega)
      · by_cases h2 : k = p
        · rw [h2, e]; exact Int32.lt_irrefl
        · have := hS k p (by omega) hp
          rw [e] at this
          exact fun h9 => Int32.lt_irrefl (Int32.lt_trans h9 this)
theorem nxI_pl (hS : Srt f) (e : pl f v = some p) : nxI f v = p + 1 := nxJ_is hS (pl_some e).1 (pl_some e).2 (by omega) (Nat.zero_le _)
theorem nxJ_nxg : ∀ {t k : Nat}, k + t = u (f 0) → nxg f v t k = if nxJ f v t k < u (f 0) then f (18 + 12 * nxJ f v t k) else 0
  | 0, k, h => by show (0 : Int32) = if k < u (f 0) then _ else _; rw [if_neg (by omega)]
  | t + 1, k, h => by
    unfold nxg nxJ
    by_cases e : v < f (18 + 12 * k)
    · rw [if_pos e, if_pos e, if_pos (by omega)]
    · rw [if_neg e, if_neg e]
      exact nxJ_nxg (by omega)
theorem nx_nxI : nx f v = if nxI f v < u (f 0) then f (18 + 12 * nxI f v) else 0 := nxJ_nxg (by omega)
theorem nxJ_le : ∀ {t k : Nat}, nxJ f v t k ≤ k + t
  | 0, k => Nat.le_refl _
  | t + 1, k => by
    unfold nxJ
    split
    · omega
    · have h9 : nxJ f v t (k + 1) ≤ k + 1 + t := nxJ_le
      omega
theorem nxI_le : nxI f v ≤ u (f 0) := by
  have := nxJ_le (f := f) (v := v) (t := u (f 0)) (k := 0)
  unfold nxI
  omega
theorem num_pos9 (hI : Inv f) (hp : p < u (f 0)) : 0 < f (18 + 12 * p) ∧ f (18 + 12 * p) ≠ 0 := by
  have := (hI.2.2.2.2.1 p hp).1.1
  have h1 : (0 : Int32) < f (18 + 12 * p) := Int32.lt_of_lt_of_le (by decide) this
  exact ⟨h1, fun e => by rw [e] at h1; exact absurd h1 (by decide)⟩
theorem pl_self (hI : Inv f) (hp : p < u (f 0)) : pl f (f (18 + 12 * p)) = some p := by
  obtain ⟨q, hq⟩ := pl_is hp
  obtain ⟨q1, q2⟩ := pl_some hq
  rcases Nat.lt_trichotomy p q with h | h | h
  · have := hI.2.2.2.2.2 p q h q1
    rw [q2] at this
    exact absurd this Int32.lt_irrefl
  · rw [hq, h]
  · have := hI.2.2.2.2.2 q p h hp
    rw [q2] at this
    exact absurd this Int32.lt_irrefl
end GOPL
