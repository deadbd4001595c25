/-! ===== the component on the heap ===== -/
/-- what holds of every state of a show -/
def GoodF (f : Nat → Int32) : Prop := Inv f ∧ HmI f ∧ 0 ≤ f 2
/-- a show in the model's form, with the cells that it owns -/
def ShowAt (G : GG) (h : AH) (F : Nat → Nat → Value) (own : Nat → Option Nat) (s : Nat) (f : Nat → Int32) : Prop := GoodF f ∧ ∃ A : SA, ShowN G h F (fun b => own b = some s) s A f
def PastR (G : GG) (h : AH) (F : Nat → Nat → Value) (own : Nat → Option Nat) (x p kl karr kcap : Nat) (hs : List Nat) : Prop :=
  Is h p 3 2 ∧ F p 0 = .ref kl ∧ F p 1 = .int (Int32.ofNat 6) ∧ LstR G h F kl karr kcap hs ∧ hs.length ≤ 6 ∧ own p = some x ∧ own kl = some x ∧ ∀ c, Is h karr 35 c → own karr = some x
section COMP
variable {G : GG} {d n : Nat} {h h2 h3 : AH} {F F2 F3 : Nat → Nat → Value} {own own2 : Nat → Option Nat} {s s1 s2 x p kl karr kcap k c : Nat} {hs : List Nat} {f f2 g : Nat → Int32} {O P : Nat → Prop} {A : SA}
theorem ShowN.cg (S : ShowN G h F O s A f) (e : ∀ j, j < 462 → f2 j = f j) : ShowN G h F O s A f2 :=
  ⟨by rw [e 1 (by decide)]; exact S.1, S.2.cg (fun j hj => e j (by omega)) (fun j h1 h2 => e j (by have := S.1; omega)) (fun j hj => e _ (by omega))⟩
theorem ShowAt.is (S : ShowAt G h F own s f) : Is h s 1 8 := by
  obtain ⟨-, A, -, S2⟩ := S
  exact S2.is
theorem ShowAt.self (S : ShowAt G h F own s f) : own s = some s := by
  obtain ⟨-, A, -, S2⟩ := S
  exact S2.own s (Or.inl rfl)
theorem ShowAt.ow (S : ShowAt G h F own s f) (ho : ∀ b, b < h.1 → own b = some s → own2 b = some s) : ShowAt G h F own2 s f := by
  obtain ⟨g1, A, g2, S2⟩ := S
  exact ⟨g1, A, g2, S2.mono ho⟩
/-- cells that are not the show's change -/
theorem ShowAt.fr (S : ShowAt G h F own s f) (fr : Fr P h F h2 F2) (hP : ∀ b, own b = some s → ¬ P b) (hK : ∀ b, KIL h b → ¬ P b) : ShowAt G h2 F2 own s f := by
  obtain ⟨g1, A, g2, S2⟩ := S
  exact ⟨g1, A, g2, S2.fr fr (fun b hb => hP b (S2.own b hb)) hK⟩
theorem ShowAt.ot (S : ShowAt G h F own s f) (fr : Fr (OP (fun b => own b = some s1) h) h F h2 F2) (hne : s ≠ s1) : ShowAt G h2 F2 own s f :=
  S.fr fr (fun b hb hp => hne (Option.some.inj (hb.symm.trans hp.1))) (fun b hk hp => hp.2 hk)
theorem ShowAt.rd (S : ShowAt G h F own s f) (fr : Fr NoP h F h2 F2) : ShowAt G h2 F2 own s f := S.fr fr (fun _ _ q => q) (fun _ _ q => q)
theorem PastR.fr (R : PastR G h F own x p kl karr kcap hs) (fr : Fr P h F h2 F2) (hP : ¬ P p) (hL : ∀ b, LF h kl karr b → ¬ P b) : PastR G h2 F2 own x p kl karr kcap hs := by
  obtain ⟨r1, r2, r3, r4, r5, r6, r7, r8⟩ := R
  have e := fr.at r1.lt hP
  refine ⟨fr.is r1, (e 0).trans r2, (e 1).trans r3, r4.kept fr hL, r5, r6, r7, fun c hc => ?_⟩
  rcases r4.2.2.2.2.2.2.1 with ⟨-, i⟩ | ⟨i, -⟩
  · exact r8 _ i
  · exact r8 _ (i.ext_uniq fr.1 hc)
theorem PastR.ow (R : PastR G h F own x p kl karr kcap hs) (ho : ∀ b, b < h.1 → own b = some x → own2 b = some x) : PastR G h F own2 x p kl karr kcap hs := by
  obtain ⟨r1, r2, r3, r4, r5, r6, r7, r8⟩ := R
  exact ⟨r1, r2, r3, r4, r5, ho _ r1.lt r6, ho _ r4.lt.1 r7, fun c hc => ho _ hc.lt (r8 c hc)⟩
theorem PastR.lf (R : PastR G h F own x p kl karr kcap hs) {b : Nat} (hb : LF h kl karr b) : own b = some x := by
  rcases hb with rfl | ⟨rfl, c, hc⟩
  · exact R.2.2.2.2.2.2.1
  · exact R.2.2.2.2.2.2.2 c hc
end COMP
