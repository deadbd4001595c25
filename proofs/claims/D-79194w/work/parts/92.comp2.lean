/-! ===== the component: its relation to the state of the model ===== -/
abbrev CA : Type := Nat × (Option Nat) × Nat × Nat × Nat × Nat × (List Nat) × Nat × Nat × Nat × (Option Nat) × (Option Nat)
abbrev CA.s (C : CA) : Nat := C.1
abbrev CA.sv (C : CA) : Option Nat := C.2.1
abbrev CA.p (C : CA) : Nat := C.2.2.1
abbrev CA.kl (C : CA) : Nat := C.2.2.2.1
abbrev CA.ka (C : CA) : Nat := C.2.2.2.2.1
abbrev CA.kc (C : CA) : Nat := C.2.2.2.2.2.1
abbrev CA.hs (C : CA) : List Nat := C.2.2.2.2.2.2.1
abbrev CA.l1 (C : CA) : Nat := C.2.2.2.2.2.2.2.1
abbrev CA.l2 (C : CA) : Nat := C.2.2.2.2.2.2.2.2.1
abbrev CA.inp (C : CA) : Nat := C.2.2.2.2.2.2.2.2.2.1
abbrev CA.bt (C : CA) : Option Nat := C.2.2.2.2.2.2.2.2.2.2.1
abbrev CA.rf (C : CA) : Option Nat := C.2.2.2.2.2.2.2.2.2.2.2
abbrev mkCA (s : Nat) (sv : Option Nat) (p : Nat) (kl : Nat) (ka : Nat) (kc : Nat) (hs : List Nat) (l1 : Nat) (l2 : Nat) (inp : Nat) (bt : Option Nat) (rf : Option Nat) : CA := (s, sv, p, kl, ka, kc, hs, l1, l2, inp, bt, rf)
/-- a made lambda that holds the component -/
def LamAt (h : AH) (F : Nat → Nat → Value) (own : Nat → Option Nat) (x l k : Nat) : Prop := Is h l k 1 ∧ F l 0 = .ref x ∧ own l = some x
def CompR (G : GG) (h : AH) (F : Nat → Nat → Value) (own : Nat → Option Nat) (x : Nat) (C : CA) (f : Nat → Int32) (σ : MS) : Prop :=
  Is h x 0 9 ∧
  F x 0 = .ref C.s ∧
  F x 1 = va_rf C.sv ∧
  F x 2 = .ref C.p ∧
  F x 3 = .ref C.l1 ∧
  F x 4 = .ref C.l2 ∧
  F x 5 = .ref C.inp ∧
  F x 6 = .int (σ.2 10) ∧
  F x 7 = va_rf C.bt ∧
  F x 8 = va_rf C.rf ∧
  own x = some x ∧
  ShowAt G h F own C.s f ∧
  PastR G h F own x C.p C.kl C.ka C.kc C.hs ∧
  C.hs.length = u (σ.2 5) ∧
  (∀ k s, C.hs[k]? = some s → ShowAt G h F own s (fun j => σ.1 4 (462 * k + j))) ∧
  C.hs.Nodup ∧
  C.s ∉ C.hs ∧
  (σ.2 3 = 0 ∧ C.sv = none ∨ σ.2 3 ≠ 0 ∧ ∃ s, C.sv = some s ∧ ShowAt G h F own s (σ.1 2) ∧ s ≠ C.s ∧ s ∉ C.hs) ∧
  Is h C.inp 34 60 ∧
  own C.inp = some x ∧
  (∀ j, j < 60 → F C.inp j = .int (σ.1 9 j)) ∧
  (∀ j, j < 60 → u (σ.1 9 j) < 65536) ∧
  u (σ.2 10) ≤ 60 ∧
  (σ.2 13 < 0 ∧ C.bt = none ∨ ¬ σ.2 13 < 0 ∧ ∃ q, C.bt = some q ∧ Is h q 22 1 ∧ F q 0 = .int (σ.2 13) ∧ own q = some x) ∧
  (σ.2 6 = 0 ∧ C.rf = none ∨ σ.2 6 ≠ 0 ∧ ∃ q, C.rf = some q ∧ Is h q 21 1 ∧ F q 0 = .int (σ.2 6) ∧ own q = some x) ∧
  LamAt h F own x C.l1 50 ∧
  LamAt h F own x C.l2 51 ∧
  Is h (emA G) 43 0 ∧
  OwB own h
section COMPA
variable {G : GG} {h : AH} {F : Nat → Nat → Value} {own : Nat → Option Nat} {x : Nat} {C : CA} {f : Nat → Int32} {σ : MS}
theorem CompR.is (R : CompR G h F own x C f σ) : Is h x 0 9 := R.1
theorem CompR.f0 (R : CompR G h F own x C f σ) : F x 0 = .ref C.s := R.2.1
theorem CompR.f1 (R : CompR G h F own x C f σ) : F x 1 = va_rf C.sv := R.2.2.1
theorem CompR.f2 (R : CompR G h F own x C f σ) : F x 2 = .ref C.p := R.2.2.2.1
theorem CompR.f3 (R : CompR G h F own x C f σ) : F x 3 = .ref C.l1 := R.2.2.2.2.1
theorem CompR.f4 (R : CompR G h F own x C f σ) : F x 4 = .ref C.l2 := R.2.2.2.2.2.1
theorem CompR.f5 (R : CompR G h F own x C f σ) : F x 5 = .ref C.inp := R.2.2.2.2.2.2.1
theorem CompR.f6 (R : CompR G h F own x C f σ) : F x 6 = .int (σ.2 10) := R.2.2.2.2.2.2.2.1
theorem CompR.f7 (R : CompR G h F own x C f σ) : F x 7 = va_rf C.bt := R.2.2.2.2.2.2.2.2.1
theorem CompR.f8 (R : CompR G h F own x C f σ) : F x 8 = va_rf C.rf := R.2.2.2.2.2.2.2.2.2.1
theorem CompR.ox (R : CompR G h F own x C f σ) : own x = some x := R.2.2.2.2.2.2.2.2.2.2.1
theorem CompR.sh (R : CompR G h F own x C f σ) : ShowAt G h F own C.s f := R.2.2.2.2.2.2.2.2.2.2.2.1
theorem CompR.pa (R : CompR G h F own x C f σ) : PastR G h F own x C.p C.kl C.ka C.kc C.hs := R.2.2.2.2.2.2.2.2.2.2.2.2.1
theorem CompR.hl (R : CompR G h F own x C f σ) : C.hs.length = u (σ.2 5) := R.2.2.2.2.2.2.2.2.2.2.2.2.2.1
theorem CompR.hi (R : CompR G h F own x C f σ) : (∀ k s, C.hs[k]? = some s → ShowAt G h F own s (fun j => σ.1 4 (462 * k + j))) := R.2.2.2.2.2.2.2.2.2.2.2.2.2.2.1
theorem CompR.hn (R : CompR G h F own x C f σ) : C.hs.Nodup := R.2.2.2.2.2.2.2.2.2.2.2.2.2.2.2.1
theorem CompR.hs (R : CompR G h F own x C f σ) : C.s ∉ C.hs := R.2.2.2.2.2.2.2.2.2.2.2.2.2.2.2.2.1
theorem CompR.sv (R : CompR G h F own x C f σ) : (σ.2 3 = 0 ∧ C.sv = none ∨ σ.2 3 ≠ 0 ∧ ∃ s, C.sv = some s ∧ ShowAt G h F own s (σ.1 2) ∧ s ≠ C.s ∧ s ∉ C.hs) := R.2.2.2.2.2.2.2.2.2.2.2.2.2.2.2.2.2.1
theorem CompR.ii (R : CompR G h F own x C f σ) : Is h C.inp 34 60 := R.2.2.2.2.2.2.2.2.2.2.2.2.2.2.2.2.2.2.1
theorem CompR.oi (R : CompR G h F own x C f σ) : own C.inp = some x := R.2.2.2.2.2.2.2.2.2.2.2.2.2.2.2.2.2.2.2.1
theorem CompR.iv (R : CompR G h F own x C f σ) : (∀ j, j < 60 → F C.inp j = .int (σ.1 9 j)) := R.2.2.2.2.2.2.2.2.2.2.2.2.2.2.2.2.2.2.2.2.1
theorem CompR.ic (R : CompR G h F own x C f σ) : (∀ j, j < 60 → u (σ.1 9 j) < 65536) := R.2.2.2.2.2.2.2.2.2.2.2.2.2.2.2.2.2.2.2.2.2.1
theorem CompR.ty (R : CompR G h F own x C f σ) : u (σ.2 10) ≤ 60 := R.2.2.2.2.2.2.2.2.2.2.2.2.2.2.2.2.2.2.2.2.2.2.1
theorem CompR.bt (R : CompR G h F own x C f σ) : (σ.2 13 < 0 ∧ C.bt = none ∨ ¬ σ.2 13 < 0 ∧ ∃ q, C.bt = some q ∧ Is h q 22 1 ∧ F q 0 = .int (σ.2 13) ∧ own q = some x) := R.2.2.2.2.2.2.2.2.2.2.2.2.2.2.2.2.2.2.2.2.2.2.2.1
theorem CompR.rf (R : CompR G h F own x C f σ) : (σ.2 6 = 0 ∧ C.rf = none ∨ σ.2 6 ≠ 0 ∧ ∃ q, C.rf = some q ∧ Is h q 21 1 ∧ F q 0 = .int (σ.2 6) ∧ own q = some x) := R.2.2.2.2.2.2.2.2.2.2.2.2.2.2.2.2.2.2.2.2.2.2.2.2.1
theorem CompR.l1 (R : CompR G h F own x C f σ) : LamAt h F own x C.l1 50 := R.2.2.2.2.2.2.2.2.2.2.2.2.2.2.2.2.2.2.2.2.2.2.2.2.2.1
theorem CompR.l2 (R : CompR G h F own x C f σ) : LamAt h F own x C.l2 51 := R.2.2.2.2.2.2.2.2.2.2.2.2.2.2.2.2.2.2.2.2.2.2.2.2.2.2.1
theorem CompR.em (R : CompR G h F own x C f σ) : Is h (emA G) 43 0 := R.2.2.2.2.2.2.2.2.2.2.2.2.2.2.2.2.2.2.2.2.2.2.2.2.2.2.2.1
theorem CompR.ob (R : CompR G h F own x C f σ) : OwB own h := R.2.2.2.2.2.2.2.2.2.2.2.2.2.2.2.2.2.2.2.2.2.2.2.2.2.2.2.2
end COMPA
/-- the parts of the model's state that the component has -/
def SgE (σ σ2 : MS) : Prop := σ2.1 2 = σ.1 2 ∧ σ2.1 4 = σ.1 4 ∧ σ2.1 9 = σ.1 9 ∧ σ2.2 3 = σ.2 3 ∧ σ2.2 5 = σ.2 5 ∧ σ2.2 6 = σ.2 6 ∧ σ2.2 10 = σ.2 10 ∧ σ2.2 13 = σ.2 13
section COMPB
variable {G : GG} {h h2 h3 : AH} {F F2 F3 : Nat → Nat → Value} {own own2 own3 : Nat → Option Nat} {x : Nat} {C : CA} {f f2 : Nat → Int32} {σ σ2 : MS} {P : Nat → Prop}
theorem CompR.sg (R : CompR G h F own x C f σ) (e : SgE σ σ2) : CompR G h F own x C f σ2 := by
  obtain ⟨e1, e2, e3, e4, e5, e6, e7, e8⟩ := e
  unfold CompR
  rw [e1, e2, e3, e4, e5, e6, e7, e8]
  exact R
theorem CompR.sx (R : CompR G h F own x C f σ) : C.s ≠ x := fun e => R.sh.is.ne R.is (by decide) e
theorem CompR.nes (R : CompR G h F own x C f σ) {s : Nat} (hm : s ∈ C.hs ∨ C.sv = some s) : s ≠ C.s := fun e => by
  rcases hm with hm | hm
  · exact R.hs (e ▸ hm)
  · rcases R.sv with ⟨-, e2⟩ | ⟨-, s3, e2, -, e4, -⟩
    · rw [e2] at hm; cases hm
    · rw [e2] at hm; cases hm; exact e4 e
theorem CompR.lts (R : CompR G h F own x C f σ) {s : Nat} (hm : s ∈ C.hs ∨ C.sv = some s) : s < h.1 := by
  rcases hm with hm | hm
  · obtain ⟨k, hk⟩ := List.mem_iff_getElem?.mp hm
    exact (R.hi k s hk).is.lt
  · rcases R.sv with ⟨-, e2⟩ | ⟨-, s3, e2, e3, -⟩
    · rw [e2] at hm; cases hm
    · rw [e2] at hm; cases hm; exact e3.is.lt
/-- something happens to the show, or to nothing -/
theorem CompR.gen (R : CompR G h F own x C f σ) (fr : Fr P h F h2 F2) (hPx : ∀ b, own b = some x → ¬ P b) (hPs : ∀ b s, own b = some s → (s ∈ C.hs ∨ C.sv = some s) → ¬ P b) (hK : ∀ b, KIL h b → ¬ P b) (t : OwT own own2 h h2) (S2 : ShowAt G h2 F2 own2 C.s f2) : CompR G h2 F2 own2 x C f2 σ := by
  have ow : ∀ b, own b = some x → b < h.1 → own2 b = some x := fun b hb hl => (t.2.1 b hl).trans hb
  have ex := fr.at R.is.lt (hPx _ R.ox)
  have ei := fr.at R.ii.lt (hPx _ R.oi)
  have shw : ∀ s g, (s ∈ C.hs ∨ C.sv = some s) → ShowAt G h F own s g → ShowAt G h2 F2 own2 s g := fun s g hne S => (S.fr fr (fun b hb => hPs b s hb hne) hK).ow fun b hb e => by
    by_cases e9 : b < h.1
    · exact (t.2.1 b e9).trans e
    · rw [R.ob b (by omega)] at e; cases e
  have hle := fr.1.1
  refine ⟨fr.is R.is, (ex 0).trans R.f0, (ex 1).trans R.f1, (ex 2).trans R.f2, (ex 3).trans R.f3, (ex 4).trans R.f4, (ex 5).trans R.f5, (ex 6).trans R.f6, (ex 7).trans R.f7, (ex 8).trans R.f8, ow x R.ox R.is.lt, S2, ?_, R.hl, fun k s hk => ?_, R.hn, R.hs, ?_, fr.is R.ii, ow _ R.oi R.ii.lt, fun j hj => (ei j).trans (R.iv j hj), R.ic, R.ty, ?_, ?_, ?_, ?_, fr.is R.em, t.1⟩
  · have P2 := R.pa.fr fr (hPx _ R.pa.2.2.2.2.2.1) (fun b hb => hPx b (R.pa.lf hb))
    obtain ⟨q1, q2, q3, q4, q5, q6, q7, q8⟩ := P2
    refine ⟨q1, q2, q3, q4, q5, ow _ R.pa.2.2.2.2.2.1 R.pa.1.lt, ow _ R.pa.2.2.2.2.2.2.1 R.pa.2.2.2.1.lt.1, fun c hc => ow _ (q8 c hc) R.pa.2.2.2.1.lt.2⟩
  · exact shw s _ (Or.inl (List.mem_of_getElem? hk)) (R.hi k s hk)
  · rcases R.sv with e | ⟨e1, s, e2, e3, e4, e5⟩
    · exact Or.inl e
    · exact Or.inr ⟨e1, s, e2, shw s _ (Or.inr e2) e3, e4, e5⟩
  · rcases R.bt with e | ⟨e1, q, e2, e3, e4, e5⟩
    · exact Or.inl e
    · exact Or.inr ⟨e1, q, e2, fr.is e3, (fr.at e3.lt (hPx _ e5) 0).trans e4, ow _ e5 e3.lt⟩
  · rcases R.rf with e | ⟨e1, q, e2, e3, e4, e5⟩
    · exact Or.inl e
    · exact Or.inr ⟨e1, q, e2, fr.is e3, (fr.at e3.lt (hPx _ e5) 0).trans e4, ow _ e5 e3.lt⟩
  · obtain ⟨e1, e2, e3⟩ := R.l1
    exact ⟨fr.is e1, (fr.at e1.lt (hPx _ e3) 0).trans e2, ow _ e3 e1.lt⟩
  · obtain ⟨e1, e2, e3⟩ := R.l2
    exact ⟨fr.is e1, (fr.at e1.lt (hPx _ e3) 0).trans e2, ow _ e3 e1.lt⟩
/-- nothing that was there has changed; the new cells are the component's -/
theorem CompR.rd (R : CompR G h F own x C f σ) (fr : Fr NoP h F h2 F2) : ∃ own2, OwT own own2 h h2 ∧ CompR G h2 F2 own2 x C f σ := by
  have t := OwT.ext R.ob fr.1.1 (h2 := h2) x
  exact ⟨_, t, R.gen fr (fun _ _ q => q) (fun _ _ _ _ q => q) (fun _ _ q => q) t ((R.sh.rd fr).ow fun b hb e => by
    by_cases e9 : b < h.1
    · exact (t.2.1 b e9).trans e
    · rw [R.ob b (by omega)] at e; cases e)⟩
/-- the show has changed -/
theorem CompR.onS (R : CompR G h F own x C f σ) (fr : Fr (OP (fun b => own b = some C.s) h) h F h2 F2) (t : OwT own own2 h h2) (S2 : ShowAt G h2 F2 own2 C.s f2) : CompR G h2 F2 own2 x C f2 σ :=
  R.gen fr (fun b hb q => R.sx (Option.some.inj (q.1.symm.trans hb))) (fun b s hb hne q => R.nes hne (Option.some.inj (hb.symm.trans q.1))) (fun b hk q => q.2 hk) t S2
end COMPB
