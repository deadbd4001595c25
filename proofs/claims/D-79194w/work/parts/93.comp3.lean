/-! ===== the component keeps its show in the past ===== -/
/-- the model's history with f at its end -/
def chF (σ : MS) (f : Nat → Int32) : MS := mV (mA σ 4 (pshP (σ.1 4) f (u (σ.2 5)))) 5 (Int32.ofNat (pshN (u (σ.2 5))))
abbrev CA.wk (C : CA) (ka kc : Nat) (hs : List Nat) : CA := mkCA C.s C.sv C.p C.kl ka kc hs C.l1 C.l2 C.inp C.bt C.rf
abbrev CA.ws (C : CA) (s : Nat) : CA := mkCA s C.sv C.p C.kl C.ka C.kc C.hs C.l1 C.l2 C.inp C.bt C.rf
section COMP3
variable {G : GG} {d n : Nat} {h h2 h3 : AH} {F F2 F3 : Nat → Nat → Value} {own own2 own3 : Nat → Option Nat} {x s s2 k i j : Nat} {C : CA} {f f2 g : Nat → Int32} {σ σ2 : MS} {P : Nat → Prop} {r : RR} {h' : AH}
theorem GoodF.cg (gf : GoodF f) (e : ∀ j, j < 462 → f2 j = f j) : GoodF f2 := by
  refine ⟨Eqv.inv (f := f) (fun j hj _ _ _ _ => (e j (by omega)).symm) gf.1, fun c hc => ?_, ?_⟩
  · rw [e (6 + c) (by omega)]; exact gf.2.1 c hc
  · rw [e 2 (by decide)]; exact gf.2.2
theorem ShowAt.cg (S : ShowAt G h F own s f) (e : ∀ j, j < 462 → f2 j = f j) : ShowAt G h F own s f2 := by
  obtain ⟨g1, A, S2⟩ := S
  exact ⟨g1.cg e, A, S2.cg e⟩
theorem CompR.old (R : CompR G h F own x C f σ) (t : OwT own own2 h h2) {s : Nat} {g : Nat → Int32} (S : ShowAt G h2 F2 own s g) : ShowAt G h2 F2 own2 s g := S.ow fun b hb e => by
  by_cases e9 : b < h.1
  · exact (t.2.1 b e9).trans e
  · rw [R.ob b (by omega)] at e; cases e
theorem CompR.keepR (R : CompR G h F own x C f σ) (K : KeepQ G h F own x C.p C.kl C.ka C.hs C.s f r h') : ∃ (h2 : AH) (F2 : Nat → Nat → Value) (own2 : Nat → Option Nat) (C2 : CA), r = .inl none ∧ h' = sF h2 F2 ∧ Ext h h2 ∧ (∀ b, b < h.1 → own b = none → F2 b = F b) ∧ Cst 8060 h h2 ∧ OwT own own2 h h2 ∧ CompR G h2 F2 own2 x C2 f (chF σ f) ∧ C2.s = C.s ∧ C2.p = C.p ∧ C2.inp = C.inp ∧ (∀ b, own b = some x → ¬ LF h C.kl C.ka b → F2 b = F b) ∧ (∀ s g, s ≠ C.s → ShowAt G h F own s g → ShowAt G h2 F2 own2 s g) ∧ C2.sv = C.sv ∧ ∀ s, s ∈ C2.hs → s ∈ C.hs ∨ h.1 ≤ s := by
  obtain ⟨h2, F2, own2, s2, ka2, kc2, rfl, rfl, fr, cst, t, P2, S2, D2, hs2⟩ := K
  have hP : ∀ b, own b = some x → ¬ LF h C.kl C.ka b → ¬ (OP (fun b => own b = some C.s) h b ∨ LF h C.kl C.ka b) := fun b hb hl q => q.elim (fun q => R.sx (Option.some.inj (q.1.symm.trans hb))) hl
  have hl0 := R.hl
  have hl6 := R.pa.2.2.2.2.1
  have ki := R.pa.2.2.2.1.1
  have nl : ∀ {b k l : Nat}, Is h b k l → k ≠ 11 → k ≠ 35 → ¬ LF h C.kl C.ka b := fun hi h1 h2 q => by
    rcases q with e | ⟨e, z, hz⟩
    · exact hi.ne ki h1 e
    · exact hi.ne hz h2 e
  have ow : ∀ b, own b = some x → b < h.1 → own2 b = some x := fun b hb hl => (t.2.1 b hl).trans hb
  have ex := fr.at R.is.lt (hP _ R.ox (nl R.is (by decide) (by decide)))
  have ei := fr.at R.ii.lt (hP _ R.oi (nl R.ii (by decide) (by decide)))
  have shw : ∀ s g, s ≠ C.s → ShowAt G h F own s g → ShowAt G h2 F2 own2 s g := fun s g hne S => R.old t (S.fr fr (fun b hb q => q.elim (fun q => hne (Option.some.inj (hb.symm.trans q.1))) (fun q => S.is.ne R.is (by decide) (Option.some.inj (hb.symm.trans (R.pa.lf q))))) (fun b hk q => q.elim (fun q => q.2 hk) (fun q => by rcases hk with e | e | e <;> exact nl e (by decide) (by decide) q)))
  have hsl : ∀ s, s ∈ C.hs → s < h.1 := fun s hs => by
    obtain ⟨k, hk⟩ := List.mem_iff_getElem?.mp hs
    exact (R.hi k s hk).is.lt
  have hmem : ∀ s, s ∈ (if C.hs.length = 6 then C.hs.drop 1 else C.hs) → s ∈ C.hs := fun s hs => by
    split at hs
    · exact List.mem_of_mem_drop hs
    · exact hs
  have hlen : (if C.hs.length = 6 then C.hs.drop 1 else C.hs).length = if C.hs.length = 6 then 5 else C.hs.length := by
    by_cases e : C.hs.length = 6
    · rw [if_pos e, if_pos e, List.length_drop]; omega
    · rw [if_neg e, if_neg e]
  have hσ4 : (chF σ f).1 4 = pshP (σ.1 4) f (u (σ.2 5)) := by unfold chF; simp [mV, mA]
  have hσ5 : (chF σ f).2 5 = Int32.ofNat (pshN (u (σ.2 5))) := by unfold chF; simp [mV]
  have hσ1 : ∀ i, i ≠ 4 → (chF σ f).1 i = σ.1 i := fun i hi => by unfold chF; simp [mV, mA, hi]
  have hσ2 : ∀ i, i ≠ 5 → (chF σ f).2 i = σ.2 i := fun i hi => by unfold chF; simp [mV, mA, hi]
  refine ⟨h2, F2, own2, C.wk ka2 kc2 ((if C.hs.length = 6 then C.hs.drop 1 else C.hs) ++ [s2]), rfl, rfl, fr.1, fun b hb ho => fr.2 b hb (fun q => q.elim (fun q => by have e9 : own b = some C.s := q.1; rw [ho] at e9; cases e9) (fun q => by have := R.pa.lf q; rw [ho] at this; cases this)), cst, t, ?_, rfl, rfl, rfl, fun b hb hl => fr.2 b (by by_cases e : b < h.1; exact e; rw [R.ob b (by omega)] at hb; cases hb) (hP b hb hl), shw, rfl, fun s hs => by rcases List.mem_append.mp hs with e | e; exact Or.inl (hmem s e); simp at e; exact Or.inr (by omega)⟩
  refine ⟨fr.is R.is, (ex 0).trans R.f0, (ex 1).trans R.f1, (ex 2).trans R.f2, (ex 3).trans R.f3, (ex 4).trans R.f4, (ex 5).trans R.f5, by rw [hσ2 10 (by decide)]; exact (ex 6).trans R.f6, (ex 7).trans R.f7, (ex 8).trans R.f8, ow x R.ox R.is.lt, S2, P2, ?_, fun k s hk => ?_, ?_, ?_, ?_, fr.is R.ii, ow _ R.oi R.ii.lt, fun j hj => by rw [hσ1 9 (by decide)]; exact (ei j).trans (R.iv j hj), by rw [hσ1 9 (by decide)]; exact R.ic, by rw [hσ2 10 (by decide)]; exact R.ty, ?_, ?_, ?_, ?_, fr.is R.em, t.1⟩
  · show ((if C.hs.length = 6 then C.hs.drop 1 else C.hs) ++ [s2]).length = u ((chF σ f).2 5)
    rw [hσ5, List.length_append, hlen, ← hl0]
    unfold pshN
    by_cases e : C.hs.length = 6
    · rw [if_pos e, if_pos e, u_of (by decide)]; rfl
    · rw [if_neg e, if_neg e, u_of (by omega)]; rfl
  · have hk : ((if C.hs.length = 6 then C.hs.drop 1 else C.hs) ++ [s2])[k]? = some s := hk
    rw [hσ4]
    have hkl := (List.getElem?_eq_some_iff.mp hk).1
    rw [List.length_append, hlen] at hkl
    by_cases e : C.hs.length = 6
    · rw [if_pos e] at hk hkl
      by_cases hk5 : k < 5
      · rw [List.getElem?_append_left (by rw [List.length_drop]; omega), List.getElem?_drop] at hk
        refine (shw s (fun j => σ.1 4 (462 * (1 + k) + j)) (fun e2 => R.hs (e2 ▸ List.mem_of_getElem? hk)) (R.hi (1 + k) s hk)).cg fun j hj => ?_
        unfold pshP cpF
        rw [if_pos (by omega), if_neg (by omega), if_pos (by omega)]
        exact congrArg (σ.1 4) (show 462 + (462 * k + j - 0) = 462 * (1 + k) + j by omega)
      · have hkl2 : k < 5 + 1 := hkl
        have hk5 : k = 5 := by omega
        subst hk5
        rw [List.getElem?_append_right (by rw [List.length_drop]; omega), List.length_drop, show 5 - (C.hs.length - 1) = 0 by omega] at hk
        cases hk
        refine D2.cg fun j hj => ?_
        unfold pshP cpF
        rw [if_pos (by omega), if_pos (by omega)]
        congr 1
        omega
    · rw [if_neg e] at hk hkl
      by_cases hk5 : k < C.hs.length
      · rw [List.getElem?_append_left hk5] at hk
        refine (shw s _ (fun e2 => R.hs (e2 ▸ List.mem_of_getElem? hk)) (R.hi _ s hk)).cg fun j hj => ?_
        unfold pshP cpF
        rw [if_neg (by omega), if_neg (by omega)]
      · have hkl2 : k < C.hs.length + 1 := hkl
        have hk5 : k = C.hs.length := by omega
        subst hk5
        rw [List.getElem?_append_right (Nat.le_refl _), Nat.sub_self] at hk
        cases hk
        refine D2.cg fun j hj => ?_
        unfold pshP cpF
        rw [if_neg (by omega), if_pos (by omega)]
        congr 1
        omega
  · show ((if C.hs.length = 6 then C.hs.drop 1 else C.hs) ++ [s2]).Nodup
    rw [List.nodup_append]
    refine ⟨?_, List.nodup_cons.mpr ⟨by simp, List.nodup_nil⟩, fun a ha b hb => ?_⟩
    · split
      · exact R.hn.sublist (List.drop_sublist ..)
      · exact R.hn
    · simp at hb
      subst hb
      have := hsl a (hmem a ha)
      omega
  · show C.s ∉ (if C.hs.length = 6 then C.hs.drop 1 else C.hs) ++ [s2]
    rw [List.mem_append]
    rintro (e | e)
    · exact R.hs (hmem _ e)
    · simp at e
      have := R.sh.is.lt
      omega
  · rw [hσ1 2 (by decide), hσ2 3 (by decide)]
    rcases R.sv with e | ⟨e1, s, e2, e3, e4, e5⟩
    · exact Or.inl e
    · refine Or.inr ⟨e1, s, e2, shw s _ e4 e3, e4, ?_⟩
      show s ∉ (if C.hs.length = 6 then C.hs.drop 1 else C.hs) ++ [s2]
      rw [List.mem_append]
      rintro (e | e)
      · exact e5 (hmem _ e)
      · simp at e
        have := e3.is.lt
        omega
  · rw [hσ2 13 (by decide)]
    rcases R.bt with e | ⟨e1, q, e2, e3, e4, e5⟩
    · exact Or.inl e
    · exact Or.inr ⟨e1, q, e2, fr.is e3, (fr.at e3.lt (hP _ e5 (nl e3 (by decide) (by decide))) 0).trans e4, ow _ e5 e3.lt⟩
  · rw [hσ2 6 (by decide)]
    rcases R.rf with e | ⟨e1, q, e2, e3, e4, e5⟩
    · exact Or.inl e
    · exact Or.inr ⟨e1, q, e2, fr.is e3, (fr.at e3.lt (hP _ e5 (nl e3 (by decide) (by decide))) 0).trans e4, ow _ e5 e3.lt⟩
  · obtain ⟨e1, e2, e3⟩ := R.l1
    exact ⟨fr.is e1, (fr.at e1.lt (hP _ e3 (nl e1 (by decide) (by decide))) 0).trans e2, ow _ e3 e1.lt⟩
  · obtain ⟨e1, e2, e3⟩ := R.l2
    exact ⟨fr.is e1, (fr.at e1.lt (hP _ e3 (nl e1 (by decide) (by decide))) 0).trans e2, ow _ e3 e1.lt⟩
end COMP3
