/-! ===== CueStack: numbers are set (plain, and helpers) ===== -/
section OPSET
variable {G : GG} {d n : Nat} {h h2 h3 : AH} {F F2 F3 : Nat → Nat → Value} {own own2 own3 : Nat → Option Nat} {x s s1 s2 k i j p q c a : Nat} {C : CA} {f f2 g : Nat → Int32} {σ σ2 : MS} {P O : Nat → Prop} {r : RR} {h' : AH} {A : SA} {v w : Int32} {b : Bool}
theorem inv_fld (hI : Inv f) (hp : p < u (f 0)) (hi : i = 1 ∧ (v = -1 ∨ 1 ≤ v) ∨ i = 2 ∧ (v = 0 ∨ v = 1) ∨ i = 3 ∧ (v = 0 ∨ v = 1)) : Inv (upd f (18 + 12 * p + i) v) := by
  have h12 := hI.1
  have hi3 : 1 ≤ i ∧ i ≤ 3 := by omega
  have lo : ∀ j, j ≠ 18 + 12 * p + i → upd f (18 + 12 * p + i) v j = f j := fun j hj => upd_o _ _ hj
  have e0 := lo 0 (by omega)
  have e1 := lo 1 (by omega)
  have en : ∀ k, upd f (18 + 12 * p + i) v (18 + 12 * k) = f (18 + 12 * k) := fun k => lo _ (by omega)
  obtain ⟨a1, a2, a3, a4, a5, a6⟩ := hI
  refine ⟨by rw [e0]; exact a1, by rw [e1]; exact a2, fun i2 hi2 => ?_, fun i2 j2 h1 h2 => ?_, fun k hk => ?_, fun j k h1 h2 => ?_⟩
  · rw [e1] at hi2
    rw [lo (162 + 4 * i2 + 3) (by omega), lo (162 + 4 * i2 + 1) (by omega), lo (162 + 4 * i2) (by omega), e0]
    obtain ⟨b1, b2, p2, b3, b4⟩ := a3 i2 hi2
    exact ⟨b1, b2, p2, b3, by rw [en]; exact b4⟩
  · rw [e1] at h2
    rw [lo (162 + 4 * i2) (by omega), lo (162 + 4 * j2) (by omega), lo (162 + 4 * i2 + 1) (by omega), lo (162 + 4 * j2 + 1) (by omega)]
    exact a4 i2 j2 h1 h2
  · rw [e0] at hk
    obtain ⟨b1, b2, b3, b4⟩ := a5 k hk
    rw [en]
    by_cases e : k = p
    · subst e
      refine ⟨b1, ?_, ?_, ?_⟩
      · rcases hi with ⟨rfl, hv⟩ | ⟨rfl, hv⟩ | ⟨rfl, hv⟩
        · rw [upd_s]; exact hv
        · rw [lo _ (by omega)]; exact b2
        · rw [lo _ (by omega)]; exact b2
      · rcases hi with ⟨rfl, hv⟩ | ⟨rfl, hv⟩ | ⟨rfl, hv⟩
        · rw [lo _ (by omega)]; exact b3
        · rw [upd_s]; exact hv
        · rw [lo _ (by omega)]; exact b3
      · rcases hi with ⟨rfl, hv⟩ | ⟨rfl, hv⟩ | ⟨rfl, hv⟩
        · rw [lo _ (by omega)]; exact b4
        · rw [lo _ (by omega)]; exact b4
        · rw [upd_s]; exact hv
    · rw [lo (18 + 12 * k + 1) (by omega), lo (18 + 12 * k + 2) (by omega), lo (18 + 12 * k + 3) (by omega)]
      exact ⟨b1, b2, b3, b4⟩
  · rw [e0] at h2
    rw [en, en]
    exact a6 j k h1 h2
theorem inv_free (hI : Inv f) (hj : 6 ≤ j ∧ j < 18 ∨ ∃ p r, p < 12 ∧ 4 ≤ r ∧ r < 12 ∧ j = 18 + 12 * p + r) : Inv (upd f j v) := by
  have lo : ∀ j2, j2 ≠ j → upd f j v j2 = f j2 := fun j2 h2 => upd_o _ _ h2
  have e0 := lo 0 (by omega)
  have e1 := lo 1 (by omega)
  have en : ∀ k r, r < 4 → upd f j v (18 + 12 * k + r) = f (18 + 12 * k + r) := fun k r hr => lo _ (by
    rcases hj with hj | ⟨p, r2, h1, h2, h3, h4⟩ <;> omega)
  have en0 : ∀ k, upd f j v (18 + 12 * k) = f (18 + 12 * k) := fun k => en k 0 (by decide)
  have er : ∀ j2, 162 ≤ j2 → upd f j v j2 = f j2 := fun j2 h2 => lo _ (by omega)
  obtain ⟨a1, a2, a3, a4, a5, a6⟩ := hI
  refine ⟨by rw [e0]; exact a1, by rw [e1]; exact a2, fun i2 hi2 => ?_, fun i2 j2 h1 h2 => ?_, fun k hk => ?_, fun j k h1 h2 => ?_⟩
  · rw [e1] at hi2
    rw [er (162 + 4 * i2 + 3) (by omega), er (162 + 4 * i2 + 1) (by omega), er (162 + 4 * i2) (by omega), e0]
    obtain ⟨b1, b2, p2, b3, b4⟩ := a3 i2 hi2
    exact ⟨b1, b2, p2, b3, by rw [en0]; exact b4⟩
  · rw [e1] at h2
    rw [er (162 + 4 * i2) (by omega), er (162 + 4 * j2) (by omega), er (162 + 4 * i2 + 1) (by omega), er (162 + 4 * j2 + 1) (by omega)]
    exact a4 i2 j2 h1 h2
  · rw [e0] at hk
    rw [en0, en k 1 (by decide), en k 2 (by decide), en k 3 (by decide)]
    exact a5 k hk
  · rw [e0] at h2
    rw [en0, en0]
    exact a6 j k h1 h2
theorem good_fld (gf : GoodF f) (hp : p < u (f 0)) (hi : i = 1 ∧ (v = -1 ∨ 1 ≤ v) ∨ i = 2 ∧ (v = 0 ∨ v = 1) ∨ i = 3 ∧ (v = 0 ∨ v = 1)) : GoodF (upd f (18 + 12 * p + i) v) :=
  ⟨inv_fld gf.1 hp hi, fun c hc => by rw [upd_o _ _ (by omega)]; exact gf.2.1 c hc, by rw [upd_o _ _ (by omega)]; exact gf.2.2⟩
theorem good_part (gf : GoodF f) (hp : p < 12) (hq : 4 ≤ q ∧ q < 12) : GoodF (upd f (18 + 12 * p + q) v) :=
  ⟨inv_free gf.1 (Or.inr ⟨p, q, hp, hq.1, hq.2, rfl⟩), fun c hc => by rw [upd_o _ _ (by omega)]; exact gf.2.1 c hc, by rw [upd_o _ _ (by omega)]; exact gf.2.2⟩
theorem good_home (gf : GoodF f) (hc : c < 12) (hv : u v ≤ 100) : GoodF (upd f (6 + c) v) :=
  ⟨inv_free gf.1 (Or.inl (by omega)), fun c2 hc2 => by
    by_cases e : c2 = c
    · subst e
      rw [upd_s]
      intro e
      rw [e] at hv
      exact absurd hv (by decide)
    · rw [upd_o _ _ (by omega)]; exact gf.2.1 c2 hc2, by rw [upd_o _ _ (by omega)]; exact gf.2.2⟩
/-- the show changes in place -/
theorem CompR.inp (R : CompR G h F own x C f σ) (ha : own a = some C.s) (hk : ¬ KIL h a) (fr : Fr (· = a) h F h F2) (S2 : ShowAt G h F2 own C.s f2) : CompR G h F2 own x C f2 σ ∧ Ch 0 h F own h F2 own := by
  have fr2 : Fr (OP (fun b => own b = some C.s) h) h F h F2 := fr.mono fun b _ e => by subst e; exact ⟨ha, hk⟩
  have t : OwT own own h h := ⟨R.ob, fun _ _ => rfl, fun b h1 h2 => by omega⟩
  exact ⟨R.onS fr2 t S2, Ch.ofS fr2 Cst.refl t⟩
theorem nkil {l : Nat} (hi : Is h a k l) (hk : k ≠ 4 ∧ k ≠ 7 ∧ k ≠ 8) : ¬ KIL h a := fun q => by
  rcases q with e | e | e <;> exact absurd (e.uniq hi).1 (by omega)
theorem SgE.ofCc : SgE (chF σ f) (oC f σ) := SgE.ofC
theorem inb_n {n : Nat} (hn : n < 1000) : inb v 0 (Int32.ofNat n - Int32.ofNat 1) = decide (u v < n) := by
  cases n with
  | zero =>
    have : Int32.ofNat 0 - Int32.ofNat 1 = -1 := by decide
    rw [this]
    unfold inb
    simp only [Nat.not_lt_zero, decide_false, Bool.and_eq_false_imp, decide_eq_true_eq, decide_eq_false_iff_not]
    intro h1 h2
    exact absurd (Int32.le_trans h1 h2) (by decide)
  | succ n =>
    rw [iN_sub (by omega), Nat.add_sub_cancel]
    exact (inb_le (n := n) (by omega)).trans (by congr 1; exact propext ⟨fun q => by omega, fun q => by omega⟩)
end OPSET
