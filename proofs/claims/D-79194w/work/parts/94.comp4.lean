/-! ===== a changed copy takes the place of the show ===== -/
/-- a chain of steps: cells of others keep, costs, owners -/
def Ch (N : Nat) (h : AH) (F : Nat → Nat → Value) (own : Nat → Option Nat) (h2 : AH) (F2 : Nat → Nat → Value) (own2 : Nat → Option Nat) : Prop := (∀ b, b < h.1 → own b = none → F2 b = F b) ∧ Ext h h2 ∧ Cst N h h2 ∧ OwT own own2 h h2
def OpQ (G : GG) (h : AH) (F : Nat → Nat → Value) (own : Nat → Option Nat) (x : Nat) (ks : List Nat) (o : OO) (r : RR) (h' : AH) : Prop :=
  ∃ (h2 : AH) (F2 : Nat → Nat → Value) (own2 : Nat → Option Nat) (C2 : CA), h' = sF h2 F2 ∧ Ch 45000 h F own h2 F2 own2 ∧ CompR G h2 F2 own2 x C2 o.2.2.1 o.2.2.2 ∧
    (o.1 = 0 ∧ r = .inl (some (.int o.2.1)) ∨ o.1 ≠ 0 ∧ ∃ q kd, ks[o.1 - 1]? = some kd ∧ r = .inr q ∧ Is h2 q kd 0)
section COMP4
variable {G : GG} {d n : Nat} {h h2 h3 : AH} {F F2 F3 : Nat → Nat → Value} {own own2 own3 : Nat → Option Nat} {x s s1 s2 k i j : Nat} {C : CA} {f f2 g : Nat → Int32} {σ σ2 : MS} {P O : Nat → Prop} {r : RR} {h' : AH} {A : SA}
theorem Ch.refl (hB : OwB own h) : Ch 0 h F own h F own := ⟨fun _ _ _ => rfl, Ext.refl, Cst.refl, hB, fun _ _ => rfl, fun b h1 h2 => by omega⟩
theorem Ch.trans {N M : Nat} (a : Ch N h F own h2 F2 own2) (b : Ch M h2 F2 own2 h3 F3 own3) : Ch (N + M) h F own h3 F3 own3 := ⟨fun c hc ho => (b.1 c (Nat.lt_of_lt_of_le hc a.2.1.1) ((a.2.2.2.2.1 c hc).trans ho)).trans (a.1 c hc ho), a.2.1.trans b.2.1, a.2.2.1.trans b.2.2.1, a.2.2.2.trans b.2.2.2 a.2.1.1⟩
theorem Ch.mono {N M : Nat} (a : Ch N h F own h2 F2 own2) (e : N ≤ M) : Ch M h F own h2 F2 own2 := ⟨a.1, a.2.1, a.2.2.1.mono e, a.2.2.2⟩
theorem Ch.ofS {N : Nat} (fr : Fr (OP (fun b => own b = some s) h) h F h2 F2) (cst : Cst N h h2) (t : OwT own own2 h h2) : Ch N h F own h2 F2 own2 := ⟨fun b hb ho => fr.2 b hb (fun q => by have e : own b = some s := q.1; rw [ho] at e; cases e), fr.1, cst, t⟩
theorem Ch.rd {N : Nat} (fr : Fr NoP h F h2 F2) (cst : Cst N h h2) (t : OwT own own2 h h2) : Ch N h F own h2 F2 own2 := ⟨fun b hb _ => fr.2 b hb (fun q => q), fr.1, cst, t⟩
/-- an exception leaves the component -/
theorem OpQ.thr {N kd : Nat} {ks : List Nat} {o : OO} {q : Nat} (ch : Ch N h F own h2 F2 own2) (hN : N ≤ 44990) (R : CompR G h2 F2 own2 x C f σ) (fr : Fr NoP h2 F2 h3 F3) (cst : Cst 2 h2 h3) (iq : Is h3 q kd 0) (ho : o.1 ≠ 0) (hk : ks[o.1 - 1]? = some kd) (hf : o.2.2.1 = f) (hs : SgE σ o.2.2.2) : OpQ G h F own x ks o (.inr q) (sF h3 F3) := by
  obtain ⟨own3, t3, R3⟩ := R.rd fr
  exact ⟨h3, F3, own3, C, rfl, (ch.trans (Ch.rd fr cst t3)).mono (by omega), by rw [hf]; exact R3.sg hs, Or.inr ⟨ho, q, kd, hk, rfl, iq⟩⟩
/-- an answer without a change -/
theorem OpQ.val {N : Nat} {ks : List Nat} {o : OO} {v : Int32} (ch : Ch N h F own h2 F2 own2) (hN : N ≤ 45000) (R : CompR G h2 F2 own2 x C f σ) (ho : o.1 = 0) (hv : o.2.1 = v) (hf : o.2.2.1 = f) (hs : SgE σ o.2.2.2) : OpQ G h F own x ks o (.inl (some (.int v))) (sF h2 F2) :=
  ⟨h2, F2, own2, C, rfl, ch.mono hN, by rw [hf]; exact R.sg hs, Or.inl ⟨ho, by rw [hv]⟩⟩
theorem SgE.trans {σ3 : MS} (a : SgE σ σ2) (b : SgE σ2 σ3) : SgE σ σ3 := ⟨b.1.trans a.1, b.2.1.trans a.2.1, b.2.2.1.trans a.2.2.1, b.2.2.2.1.trans a.2.2.2.1, b.2.2.2.2.1.trans a.2.2.2.2.1, b.2.2.2.2.2.1.trans a.2.2.2.2.2.1, b.2.2.2.2.2.2.1.trans a.2.2.2.2.2.2.1, b.2.2.2.2.2.2.2.trans a.2.2.2.2.2.2.2⟩
theorem SgE.refl : SgE σ σ := ⟨rfl, rfl, rfl, rfl, rfl, rfl, rfl, rfl⟩
theorem SgE.v7 {v : Int32} : SgE σ (mV σ 7 v) := ⟨rfl, rfl, rfl, by simp [mV], by simp [mV], by simp [mV], by simp [mV], by simp [mV]⟩
theorem SgE.a1 {v : Int32} : SgE σ (mV (mA σ 1 f) 7 v) := ⟨by simp [mV, mA], by simp [mV, mA], by simp [mV, mA], by simp [mV, mA], by simp [mV, mA], by simp [mV, mA], by simp [mV, mA], by simp [mV, mA]⟩
theorem SgE.chg1 {v : Int32} : SgE (chF σ f) (chg (mV (mA σ 1 f) 7 v)) := by
  unfold chF chg
  refine ⟨?_, ?_, ?_, ?_, ?_, ?_, ?_, ?_⟩ <;> simp [mV, mA]
theorem SgE.ofC : SgE (chF σ f) (oC f σ) := by
  unfold chF oC chg
  refine ⟨?_, ?_, ?_, ?_, ?_, ?_, ?_, ?_⟩ <;> simp [mV, mA]
/-- a show that isn't the component's changes -/
theorem CompR.oth (R : CompR G h F own x C f σ) (fr : Fr (OP (fun b => own b = some s1) h) h F h2 F2) (t : OwT own own2 h h2) (hx : s1 ≠ x) (hs : s1 ≠ C.s) (hm : ¬ (s1 ∈ C.hs ∨ C.sv = some s1)) : CompR G h2 F2 own2 x C f σ :=
  R.gen fr (fun b hb q => hx (Option.some.inj (q.1.symm.trans hb))) (fun b s hb hm2 q => hm ((Option.some.inj (hb.symm.trans q.1)) ▸ hm2)) (fun b hk q => q.2 hk) t (R.old t (R.sh.ot fr (Ne.symm hs)))
/-- the field that holds the show -/
theorem CompR.setShow (R : CompR G h F own x C f σ) (D : ShowAt G h F own s2 f2) (hx : s2 ≠ x) (hm : ¬ (s2 ∈ C.hs ∨ C.sv = some s2)) : CompR G h (updF F x 0 (.ref s2)) own x (C.ws s2) f2 σ := by
  have fr : Fr (· = x) h F h (updF F x 0 (.ref s2)) := Fr.upd rfl
  have g : ∀ j, j ≠ 0 → updF F x 0 (.ref s2) x j = F x j := fun j hj => updF_i hj rfl
  have shw : ∀ s g, ShowAt G h F own s g → ShowAt G h (updF F x 0 (.ref s2)) own s g := fun s g S => S.fr fr (fun b hb e => S.is.ne R.is (by decide) (Option.some.inj (hb.symm.trans (e ▸ R.ox)))) (fun b hk e => by subst e; rcases hk with e | e | e <;> exact absurd rfl (e.ne R.is (by decide)))
  have nx : ∀ {b k l : Nat}, Is h b k l → k ≠ 0 → b ≠ x := fun hi hk => hi.ne R.is hk
  have ki := R.pa.2.2.2.1.1
  refine ⟨R.is, updF_self _ _ _ _, (g 1 (by decide)).trans R.f1, (g 2 (by decide)).trans R.f2, (g 3 (by decide)).trans R.f3, (g 4 (by decide)).trans R.f4, (g 5 (by decide)).trans R.f5, (g 6 (by decide)).trans R.f6, (g 7 (by decide)).trans R.f7, (g 8 (by decide)).trans R.f8, R.ox, shw _ _ D, ?_, R.hl, fun k s hk => shw _ _ (R.hi k s hk), R.hn, fun e => hm (Or.inl e), ?_, R.ii, R.oi, fun j hj => updF_a (nx R.ii (by decide)) (R.iv j hj), R.ic, R.ty, ?_, ?_, ?_, ?_, R.em, R.ob⟩
  · exact R.pa.fr fr (nx R.pa.1 (by decide)) (fun b hb e => by rcases hb with e2 | ⟨e2, z, hz⟩; exact nx ki (by decide) (e2.symm.trans e); exact nx hz (by decide) (e2.symm.trans e))
  · rcases R.sv with e | ⟨e1, s, e2, e3, e4, e5⟩
    · exact Or.inl e
    · exact Or.inr ⟨e1, s, e2, shw _ _ e3, fun e => hm (Or.inr (e2.trans (congrArg some e))), e5⟩
  · rcases R.bt with e | ⟨e1, q, e2, e3, e4, e5⟩
    · exact Or.inl e
    · exact Or.inr ⟨e1, q, e2, e3, updF_a (nx e3 (by decide)) e4, e5⟩
  · rcases R.rf with e | ⟨e1, q, e2, e3, e4, e5⟩
    · exact Or.inl e
    · exact Or.inr ⟨e1, q, e2, e3, updF_a (nx e3 (by decide)) e4, e5⟩
  · obtain ⟨e1, e2, e3⟩ := R.l1
    exact ⟨e1, updF_a (nx e1 (by decide)) e2, e3⟩
  · obtain ⟨e1, e2, e3⟩ := R.l2
    exact ⟨e1, updF_a (nx e1 (by decide)) e2, e3⟩
/-- become: its outcome -/
def BecQ (G : GG) (h : AH) (F : Nat → Nat → Value) (own : Nat → Option Nat) (x s2 : Nat) (f f2 : Nat → Int32) (σ : MS) (r : RR) (h' : AH) : Prop :=
  ∃ (h2 : AH) (F2 : Nat → Nat → Value) (own2 : Nat → Option Nat) (C2 : CA), r = .inl none ∧ h' = sF h2 F2 ∧ Ch 8060 h F own h2 F2 own2 ∧ CompR G h2 F2 own2 x C2 f2 (chF σ f) ∧ C2.s = s2
theorem s_X1_become (hd : 18 ≤ d) (hG : StG G) (R : CompR G h F own x C f σ) (D : ShowAt G h F own s2 f2) (hne : s2 ≠ C.s) (hm : ¬ (s2 ∈ C.hs ∨ C.sv = some s2)) : MA G d mX1_become [.ref x, .ref s2] (sF h F) (BecQ G h F own x s2 f f2 σ) := by
  have i1 := R.is
  have e0 := R.f0
  have e2 := R.f2
  have p1 := R.pa.1
  have hsx := R.sx
  change WA G d mX1_become 0 [.ref x, .ref s2] [] _ _
  refine wa_aloadV_n (pc := 0) (y := mX1_become) dX1_become_0 rfl (by first | exact rf_s _ | exact rf_n | exact rf_q _) ?_
  refine wf_get (k := 0) (l := 9) 2 dX1_become_1 (by assumption) rfl q1113 (Or.inl rfl) (Nat.le_of_ble_eq_true rfl) (Nat.le_of_ble_eq_true rfl) (by (repeat (first | exact updF_self _ _ _ _ | (apply updF_i; · decide) | (apply updF_a; · first | assumption | (apply Ne.symm; assumption) | omega) | (apply newF_a; · first | assumption | (apply Ne.symm; assumption) | omega) | exact newL_self (by rfl) | exact newF_self (by rfl) | (apply cpyF_a; · first | assumption | (apply Ne.symm; assumption) | omega))) <;> first | assumption | rfl) ?_
  refine wa_aloadV_n (pc := 4) (y := mX1_become) dX1_become_4 rfl (by first | exact rf_s _ | exact rf_n | exact rf_q _) ?_
  refine wf_get (k := 0) (l := 9) 0 dX1_become_5 (by assumption) rfl q1111 (Or.inl rfl) (Nat.le_of_ble_eq_true rfl) (Nat.le_of_ble_eq_true rfl) (by (repeat (first | exact updF_self _ _ _ _ | (apply updF_i; · decide) | (apply updF_a; · first | assumption | (apply Ne.symm; assumption) | omega) | (apply newF_a; · first | assumption | (apply Ne.symm; assumption) | omega) | exact newL_self (by rfl) | exact newF_self (by rfl) | (apply cpyF_a; · first | assumption | (apply Ne.symm; assumption) | omega))) <;> first | assumption | rfl) ?_
  refine wa_callV (pc := 8) (s_X4_keep (d := d - 1) (by omega) hG R.em R.ob R.pa R.sh hsx R.is.lt) dX1_become_8 okX4_keep q1764 q1765 q1766 (sF_at (by assumption)) rfl rfl rfl (Nat.le_of_ble_eq_true rfl) (Nat.le_of_ble_eq_true rfl) (by omega) ?_
  rintro r h' - - K
  obtain ⟨h3, F3, own3, C3, rfl, rfl, ext, hnone, cst, t, R3, c1, c2, c3, hx3, shw, csv, chs⟩ := R.keepR K
  refine aft_0 (pc2 := 11) ?_ rfl
  have j1 := R3.is
  have D3 := shw s2 f2 hne D
  have R4 := R3.setShow D3 (fun e => D.is.ne R.is (by decide) e) (fun q => q.elim (fun q => (chs s2 q).elim (fun q => hm (Or.inl q)) (fun q => by have := D.is.lt; omega)) (fun q => hm (Or.inr (csv ▸ q))))
  refine wa_aloadV_n (pc := 11) (y := mX1_become) dX1_become_11 rfl (by first | exact rf_s _ | exact rf_n | exact rf_q _) ?_
  refine wa_aloadV_n (pc := 12) (y := mX1_become) dX1_become_12 rfl (by first | exact rf_s _ | exact rf_n | exact rf_q _) ?_
  refine wf_put (k := 0) (l := 9) 0 (.object "CueStack$Show") dX1_become_13 (by assumption) rfl q1111 (Or.inl rfl) (Nat.le_of_ble_eq_true rfl) rfl (by decide +kernel) (by first | rfl | exact rf_nar _ | exact rf_nar2 _) (by first | rfl | exact rf_fit _ | exact rf_fit2 _) ?_
  refine wa_return (pc := 16) (y := mX1_become) dX1_become_16 rfl ⟨h3, _, own3, C3.ws s2, rfl, rfl, ⟨fun b hb ho => (show updF F3 x 0 (.ref s2) b = F3 b from by funext j; exact updF_a (fun e => by rw [e, R.ox] at ho; cases ho) rfl).trans (hnone b hb ho), ext, cst, t⟩, R4, rfl⟩
end COMP4
