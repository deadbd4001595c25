/-! ===== the component's own fields change ===== -/
abbrev CA.wf (C : CA) (sv bt rf : Option Nat) : CA := mkCA C.s sv C.p C.kl C.ka C.kc C.hs C.l1 C.l2 C.inp bt rf
section COMP5
variable {G : GG} {d n : Nat} {h h2 h3 : AH} {F F2 F3 : Nat → Nat → Value} {own own2 own3 : Nat → Option Nat} {x s s1 s2 k i j m q : Nat} {C : CA} {f f2 g : Nat → Int32} {σ σ2 : MS} {P O : Nat → Prop} {r : RR} {h' : AH} {A : SA} {w : Value} {sv bt rf : Option Nat} {z v : Int32}
theorem CompR.xset (R : CompR G h F own x C f σ) (hi : i = 1 ∨ i = 6 ∨ i = 7 ∨ i = 8)
    (h1 : updF F x i w x 1 = va_rf sv) (h6 : updF F x i w x 6 = .int (σ2.2 10)) (h7 : updF F x i w x 7 = va_rf bt) (h8 : updF F x i w x 8 = va_rf rf)
    (hσ4 : σ2.1 4 = σ.1 4) (hσ9 : σ2.1 9 = σ.1 9) (hσ5 : σ2.2 5 = σ.2 5) (hty : u (σ2.2 10) ≤ 60)
    (hsv : σ2.2 3 = 0 ∧ sv = none ∨ σ2.2 3 ≠ 0 ∧ ∃ s, sv = some s ∧ ShowAt G h F own s (σ2.1 2) ∧ s ≠ C.s ∧ s ∉ C.hs)
    (hbt : σ2.2 13 < 0 ∧ bt = none ∨ ¬ σ2.2 13 < 0 ∧ ∃ q, bt = some q ∧ Is h q 22 1 ∧ F q 0 = .int (σ2.2 13) ∧ own q = some x)
    (hrf : σ2.2 6 = 0 ∧ rf = none ∨ σ2.2 6 ≠ 0 ∧ ∃ q, rf = some q ∧ Is h q 21 1 ∧ F q 0 = .int (σ2.2 6) ∧ own q = some x) :
    CompR G h (updF F x i w) own x (C.wf sv bt rf) f σ2 ∧ ∀ s g, ShowAt G h F own s g → ShowAt G h (updF F x i w) own s g := by
  have fr : Fr (· = x) h F h (updF F x i w) := Fr.upd rfl
  have g : ∀ j, j ≠ i → updF F x i w x j = F x j := fun j hj => updF_i hj rfl
  have shw : ∀ s g, ShowAt G h F own s g → ShowAt G h (updF F x i w) own s g := fun s g S => S.fr fr (fun b hb e => S.is.ne R.is (by decide) (Option.some.inj (hb.symm.trans (e ▸ R.ox)))) (fun b hk e => by subst e; rcases hk with e | e | e <;> exact absurd rfl (e.ne R.is (by decide)))
  have nx : ∀ {b k l : Nat}, Is h b k l → k ≠ 0 → b ≠ x := fun hi hk => hi.ne R.is hk
  have ki := R.pa.2.2.2.1.1
  refine ⟨⟨R.is, (g 0 (by omega)).trans R.f0, h1, (g 2 (by omega)).trans R.f2, (g 3 (by omega)).trans R.f3, (g 4 (by omega)).trans R.f4, (g 5 (by omega)).trans R.f5, h6, h7, h8, R.ox, shw _ _ R.sh, ?_, hσ5 ▸ R.hl, fun k s hk => hσ4 ▸ shw _ _ (R.hi k s hk), R.hn, R.hs, ?_, R.ii, R.oi, fun j hj => by rw [hσ9]; exact updF_a (nx R.ii (by decide)) (R.iv j hj), by rw [hσ9]; exact R.ic, hty, ?_, ?_, ?_, ?_, R.em, R.ob⟩, shw⟩
  · exact R.pa.fr fr (nx R.pa.1 (by decide)) (fun b hb e => by rcases hb with e2 | ⟨e2, z, hz⟩; exact nx ki (by decide) (e2.symm.trans e); exact nx hz (by decide) (e2.symm.trans e))
  · rcases hsv with e | ⟨e1, s, e2, e3, e4, e5⟩
    · exact Or.inl e
    · exact Or.inr ⟨e1, s, e2, shw _ _ e3, e4, e5⟩
  · rcases hbt with e | ⟨e1, q, e2, e3, e4, e5⟩
    · exact Or.inl e
    · exact Or.inr ⟨e1, q, e2, e3, updF_a (nx e3 (by decide)) e4, e5⟩
  · rcases hrf with e | ⟨e1, q, e2, e3, e4, e5⟩
    · exact Or.inl e
    · exact Or.inr ⟨e1, q, e2, e3, updF_a (nx e3 (by decide)) e4, e5⟩
  · obtain ⟨e1, e2, e3⟩ := R.l1
    exact ⟨e1, updF_a (nx e1 (by decide)) e2, e3⟩
  · obtain ⟨e1, e2, e3⟩ := R.l2
    exact ⟨e1, updF_a (nx e1 (by decide)) e2, e3⟩
theorem CompR.setRef (R : CompR G h F own x C f σ) (iq : Is h q 21 1) (e : F q 0 = .int z) (o : own q = some x) (hz : z ≠ 0) : CompR G h (updF F x 8 (.ref q)) own x (C.wf C.sv C.bt (some q)) f (mV σ 6 z) :=
  (R.xset (σ2 := mV σ 6 z) (Or.inr (Or.inr (Or.inr rfl))) ((updF_i (by decide) rfl).trans R.f1) ((updF_i (by decide) rfl).trans R.f6) ((updF_i (by decide) rfl).trans R.f7) (updF_self _ _ _ _) rfl rfl rfl R.ty R.sv R.bt (Or.inr ⟨hz, q, rfl, iq, e, o⟩)).1
theorem CompR.setBad (R : CompR G h F own x C f σ) (iq : Is h q 22 1) (e : F q 0 = .int z) (o : own q = some x) (hz : ¬ z < 0) : CompR G h (updF F x 7 (.ref q)) own x (C.wf C.sv (some q) C.rf) f (mV σ 13 z) :=
  (R.xset (σ2 := mV σ 13 z) (Or.inr (Or.inr (Or.inl rfl))) ((updF_i (by decide) rfl).trans R.f1) ((updF_i (by decide) rfl).trans R.f6) (updF_self _ _ _ _) ((updF_i (by decide) rfl).trans R.f8) rfl rfl rfl R.ty R.sv (Or.inr ⟨hz, q, rfl, iq, e, o⟩) R.rf).1
theorem CompR.setTy (R : CompR G h F own x C f σ) (hz : u z ≤ 60) : CompR G h (updF F x 6 (.int z)) own x C f (mV σ 10 z) :=
  (R.xset (σ2 := mV σ 10 z) (Or.inr (Or.inl rfl)) ((updF_i (by decide) rfl).trans R.f1) (updF_self _ _ _ _) ((updF_i (by decide) rfl).trans R.f7) ((updF_i (by decide) rfl).trans R.f8) rfl rfl rfl hz R.sv R.bt R.rf).1
theorem CompR.setSv (R : CompR G h F own x C f σ) (D : ShowAt G h F own s2 f2) (h1 : s2 ≠ C.s) (h2 : s2 ∉ C.hs) : CompR G h (updF F x 1 (.ref s2)) own x (C.wf (some s2) C.bt C.rf) f (mV (mA σ 2 f2) 3 1) :=
  (R.xset (σ2 := mV (mA σ 2 f2) 3 1) (Or.inl rfl) (updF_self _ _ _ _) ((updF_i (by decide) rfl).trans R.f6) ((updF_i (by decide) rfl).trans R.f7) ((updF_i (by decide) rfl).trans R.f8) rfl rfl rfl R.ty (Or.inr ⟨by show (1 : Int32) ≠ 0; decide, s2, rfl, D, h1, h2⟩) R.bt R.rf).1
/-- the array of what was typed changes -/
theorem CompR.setInp (R : CompR G h F own x C f σ) (hz : u z < 65536) : CompR G h (updF F C.inp j (.int z)) own x C f (mA σ 9 (upd (σ.1 9) j z)) := by
  have fr : Fr (· = C.inp) h F h (updF F C.inp j (.int z)) := Fr.upd rfl
  have hnx : ∀ {b k l : Nat}, Is h b k l → k ≠ 34 → b ≠ C.inp := fun hi hk => hi.ne R.ii hk
  have ox : ∀ k, updF F C.inp j (.int z) x k = F x k := fun k => updF_a (hnx R.is (by decide)) rfl
  have shw : ∀ s g, ShowAt G h F own s g → ShowAt G h (updF F C.inp j (.int z)) own s g := fun s g S => S.fr fr (fun b hb e => S.is.ne R.is (by decide) (Option.some.inj (hb.symm.trans (e ▸ R.oi)))) (fun b hk e => by subst e; rcases hk with e | e | e <;> exact absurd rfl (e.ne R.ii (by decide)))
  have ki := R.pa.2.2.2.1.1
  refine ⟨R.is, (ox 0).trans R.f0, (ox 1).trans R.f1, (ox 2).trans R.f2, (ox 3).trans R.f3, (ox 4).trans R.f4, (ox 5).trans R.f5, (ox 6).trans R.f6, (ox 7).trans R.f7, (ox 8).trans R.f8, R.ox, shw _ _ R.sh, ?_, R.hl, fun k s hk => shw _ _ (R.hi k s hk), R.hn, R.hs, ?_, R.ii, R.oi, fun j2 hj => ?_, fun j2 hj => ?_, R.ty, ?_, ?_, ?_, ?_, R.em, R.ob⟩
  · exact R.pa.fr fr (hnx R.pa.1 (by decide)) (fun b hb e => by rcases hb with e2 | ⟨e2, z, hz⟩; exact hnx ki (by decide) (e2.symm.trans e); exact hnx hz (by decide) (e2.symm.trans e))
  · rcases R.sv with e | ⟨e1, s, e2, e3, e4, e5⟩
    · exact Or.inl e
    · exact Or.inr ⟨e1, s, e2, shw _ _ e3, e4, e5⟩
  · show updF F C.inp j (.int z) C.inp j2 = .int (upd (σ.1 9) j z j2)
    by_cases e : j2 = j
    · subst e
      rw [upd_s]
      exact updF_self _ _ _ _
    · rw [upd_o _ _ e, updF_i e rfl]
      exact R.iv j2 hj
  · show u (upd (σ.1 9) j z j2) < 65536
    by_cases e : j2 = j
    · subst e
      rw [upd_s]
      exact hz
    · rw [upd_o _ _ e]
      exact R.ic j2 hj
  · rcases R.bt with e | ⟨e1, q, e2, e3, e4, e5⟩
    · exact Or.inl e
    · exact Or.inr ⟨e1, q, e2, e3, updF_a (hnx e3 (by decide)) e4, e5⟩
  · rcases R.rf with e | ⟨e1, q, e2, e3, e4, e5⟩
    · exact Or.inl e
    · exact Or.inr ⟨e1, q, e2, e3, updF_a (hnx e3 (by decide)) e4, e5⟩
  · obtain ⟨e1, e2, e3⟩ := R.l1
    exact ⟨e1, updF_a (hnx e1 (by decide)) e2, e3⟩
  · obtain ⟨e1, e2, e3⟩ := R.l2
    exact ⟨e1, updF_a (hnx e1 (by decide)) e2, e3⟩
/-- the past becomes shorter -/
theorem CompR.pst (R : CompR G h F own x C f σ) (fr : Fr (LF h C.kl C.ka) h F h F2) (L : LstR G h F2 C.kl C.ka C.kc (C.hs.take m)) (hm : m ≤ C.hs.length) : CompR G h F2 own x (C.wk C.ka C.kc (C.hs.take m)) f (mV σ 5 (Int32.ofNat m)) ∧ ∀ s g, ShowAt G h F own s g → ShowAt G h F2 own s g := by
  have ki := R.pa.2.2.2.1.1
  have nl : ∀ {b k l : Nat}, Is h b k l → k ≠ 11 → k ≠ 35 → ¬ LF h C.kl C.ka b := fun hi h1 h2 q => by
    rcases q with e | ⟨e, z, hz⟩
    · exact hi.ne ki h1 e
    · exact hi.ne hz h2 e
  have ex := fr.at R.is.lt (nl R.is (by decide) (by decide))
  have ei := fr.at R.ii.lt (nl R.ii (by decide) (by decide))
  have shw : ∀ s g, ShowAt G h F own s g → ShowAt G h F2 own s g := fun s g S => S.fr fr (fun b hb q => S.is.ne R.is (by decide) (Option.some.inj (hb.symm.trans (R.pa.lf q)))) (fun b hk q => by rcases hk with e | e | e <;> exact nl e (by decide) (by decide) q)
  have h6 := R.pa.2.2.2.2.1
  have hlen : (C.hs.take m).length = m := by rw [List.length_take]; omega
  obtain ⟨r1, r2, r3, r4, r5, r6, r7, r8⟩ := R.pa
  have ep := fr.at r1.lt (nl r1 (by decide) (by decide))
  refine ⟨⟨R.is, (ex 0).trans R.f0, (ex 1).trans R.f1, (ex 2).trans R.f2, (ex 3).trans R.f3, (ex 4).trans R.f4, (ex 5).trans R.f5, (ex 6).trans R.f6, (ex 7).trans R.f7, (ex 8).trans R.f8, R.ox, shw _ _ R.sh, ⟨r1, (ep 0).trans r2, (ep 1).trans r3, L, by rw [hlen]; omega, r6, r7, r8⟩, ?_, fun k s hk => ?_, R.hn.sublist (List.take_sublist ..), fun e => R.hs (List.mem_of_mem_take e), ?_, R.ii, R.oi, fun j hj => (ei j).trans (R.iv j hj), R.ic, R.ty, ?_, ?_, ?_, ?_, R.em, R.ob⟩, shw⟩
  · show (C.hs.take m).length = u (Int32.ofNat m)
    rw [hlen, u_of (by omega)]
  · have hk : (C.hs.take m)[k]? = some s := hk
    have hk2 := (List.getElem?_eq_some_iff.mp hk).1
    rw [hlen] at hk2
    rw [List.getElem?_take, if_pos hk2] at hk
    exact shw _ _ (R.hi k s hk)
  · rcases R.sv with e | ⟨e1, s, e2, e3, e4, e5⟩
    · exact Or.inl e
    · exact Or.inr ⟨e1, s, e2, shw _ _ e3, e4, fun e => e5 (List.mem_of_mem_take e)⟩
  · rcases R.bt with e | ⟨e1, q, e2, e3, e4, e5⟩
    · exact Or.inl e
    · exact Or.inr ⟨e1, q, e2, e3, (fr.at e3.lt (nl e3 (by decide) (by decide)) 0).trans e4, e5⟩
  · rcases R.rf with e | ⟨e1, q, e2, e3, e4, e5⟩
    · exact Or.inl e
    · exact Or.inr ⟨e1, q, e2, e3, (fr.at e3.lt (nl e3 (by decide) (by decide)) 0).trans e4, e5⟩
  · obtain ⟨e1, e2, e3⟩ := R.l1
    exact ⟨e1, (fr.at e1.lt (nl e1 (by decide) (by decide)) 0).trans e2, e3⟩
  · obtain ⟨e1, e2, e3⟩ := R.l2
    exact ⟨e1, (fr.at e1.lt (nl e1 (by decide) (by decide)) 0).trans e2, e3⟩
/-- the saved one was copied -/
theorem CompR.onV (R : CompR G h F own x C f σ) (hv : C.sv = some s1) (fr : Fr (OP (fun b => own b = some s1) h) h F h2 F2) (t : OwT own own2 h h2) (S2 : ShowAt G h2 F2 own2 s1 (σ.1 2)) : CompR G h2 F2 own2 x C f σ := by
  obtain ⟨e0, e4, e5⟩ : σ.2 3 ≠ 0 ∧ s1 ≠ C.s ∧ s1 ∉ C.hs := by
    rcases R.sv with ⟨-, e2⟩ | ⟨e1, s, e2, -, e4, e5⟩
    · rw [hv] at e2; cases e2
    · rw [hv] at e2; cases e2; exact ⟨e1, e4, e5⟩
  have hsx : s1 ≠ x := fun e => R.is.ne (by rcases R.sv with ⟨-, e2⟩ | ⟨-, s, e2, e3, -⟩; rw [hv] at e2; cases e2; rw [hv] at e2; cases e2; exact e3.is) (by decide) e.symm
  have ow : ∀ b, own b = some x → b < h.1 → own2 b = some x := fun b hb hl => (t.2.1 b hl).trans hb
  have hPx : ∀ b, own b = some x → ¬ OP (fun b => own b = some s1) h b := fun b hb q => hsx (Option.some.inj (q.1.symm.trans hb))
  have ex := fr.at R.is.lt (hPx _ R.ox)
  have ei := fr.at R.ii.lt (hPx _ R.oi)
  have shw : ∀ s g, s ≠ s1 → ShowAt G h F own s g → ShowAt G h2 F2 own2 s g := fun s g hne S => R.old t (S.ot fr hne)
  refine ⟨fr.is R.is, (ex 0).trans R.f0, (ex 1).trans R.f1, (ex 2).trans R.f2, (ex 3).trans R.f3, (ex 4).trans R.f4, (ex 5).trans R.f5, (ex 6).trans R.f6, (ex 7).trans R.f7, (ex 8).trans R.f8, ow x R.ox R.is.lt, shw _ _ (Ne.symm e4) R.sh, ?_, R.hl, fun k s hk => shw _ _ (fun e => e5 (e ▸ List.mem_of_getElem? hk)) (R.hi k s hk), R.hn, R.hs, Or.inr ⟨e0, s1, hv, S2, e4, e5⟩, fr.is R.ii, ow _ R.oi R.ii.lt, fun j hj => (ei j).trans (R.iv j hj), R.ic, R.ty, ?_, ?_, ?_, ?_, fr.is R.em, t.1⟩
  · have P2 := R.pa.fr fr (hPx _ R.pa.2.2.2.2.2.1) (fun b hb => hPx b (R.pa.lf hb))
    obtain ⟨q1, q2, q3, q4, q5, q6, q7, q8⟩ := P2
    refine ⟨q1, q2, q3, q4, q5, ow _ R.pa.2.2.2.2.2.1 R.pa.1.lt, ow _ R.pa.2.2.2.2.2.2.1 R.pa.2.2.2.1.lt.1, fun c hc => ow _ (q8 c hc) R.pa.2.2.2.1.lt.2⟩
  · rcases R.bt with e | ⟨e1, q, e2, e3, e4, e5⟩
    · exact Or.inl e
    · exact Or.inr ⟨e1, q, e2, fr.is e3, (fr.at e3.lt (hPx _ e5) 0).trans e4, ow _ e5 e3.lt⟩
  · rcases R.rf with e | ⟨e1, q, e2, e3, e4, e5⟩
    · exact Or.inl e
    · exact Or.inr ⟨e1, q, e2, fr.is e3, (fr.at e3.lt (hPx _ e5) 0).trans e4, ow _ e5 e3.lt⟩
  · obtain ⟨e1, e2, e3⟩ := R.l1
    exact ⟨fr.is e1, (fr.at e1.lt (hPx _ e3) 0).trans e2, ow _ e3 e1.lt⟩
  · obtain ⟨e1, e2, e3⟩ := R.l2
    exact ⟨fr.is e1, (fr.at e1.lt (hPx _ e3) 0).trans e2, ow _ e3 e1.lt⟩
/-- changes of cells of the component make a chain -/
theorem Ch.ofX (R : CompR G h F own x C f σ) (fr : Fr P h F h F2) (hP : ∀ b, P b → own b ≠ none) : Ch 0 h F own h F2 own := ⟨fun b hb ho => fr.2 b hb (fun q => hP b q ho), Ext.refl, Cst.refl, R.ob, fun _ _ => rfl, fun b h1 h2 => by omega⟩
theorem Ch.setx (R : CompR G h F own x C f σ) : Ch 0 h F own h (updF F x i w) own := Ch.ofX R (Fr.upd (P := (· = x)) rfl) (fun b e ho => by rw [e, R.ox] at ho; cases ho)
theorem Ch.past (R : CompR G h F own x C f σ) (fr : Fr (LF h C.kl C.ka) h F h F2) : Ch 0 h F own h F2 own := Ch.ofX R fr (fun b e ho => by rw [R.pa.lf e] at ho; cases ho)
theorem s_X4_size (hd : 1 ≤ d) (R : CompR G h F own x C f σ) : MA G d mX4_size [.ref C.p] (sF h F) (fun r h' => r = .inl (some (.int (Int32.ofNat C.hs.length))) ∧ h' = sF h F) := by
  obtain ⟨r1, r2, r3, r4, r5, r6, r7, r8⟩ := id R.pa
  have r41 := r4.1
  change WA G d mX4_size 0 [.ref C.p] [] _ _
  refine wa_aloadV_n (pc := 0) (y := mX4_size) dX4_size_0 rfl (by first | exact rf_s _ | exact rf_n | exact rf_q _) ?_
  refine wf_get (k := 3) (l := 2) 0 dX4_size_1 (by assumption) rfl q396 (Or.inl rfl) (Nat.le_of_ble_eq_true rfl) (Nat.le_of_ble_eq_true rfl) (by (repeat (first | exact updF_self _ _ _ _ | (apply updF_i; · decide) | (apply updF_a; · first | assumption | (apply Ne.symm; assumption) | omega) | (apply newF_a; · first | assumption | (apply Ne.symm; assumption) | omega) | exact newL_self (by rfl) | exact newF_self (by rfl) | (apply cpyF_a; · first | assumption | (apply Ne.symm; assumption) | omega))) <;> first | assumption | rfl) ?_
  refine wa_callV (pc := 4) (s_J2_size (d := d - 1) r4) dX4_size_4 okJ2_size q1768 q1145 q1146 (sF_at (by assumption)) rfl rfl rfl (Nat.le_of_ble_eq_true rfl) (Nat.le_of_ble_eq_true rfl) (by omega) ?_
  rintro _ _ - - ⟨rfl, rfl⟩
  refine aft_v (pc2 := 7) ?_ rfl
  refine wa_ireturn (pc := 7) (y := mX4_size) .int dX4_size_7 rfl rfl ⟨rfl, rfl⟩
theorem s_X4_forget (hd : 1 ≤ d) (R : CompR G h F own x C f σ) : MA G d mX4_forget [.ref C.p] (sF h F) (fun r h' => r = .inl none ∧ ∃ F2, h' = sF h F2 ∧ Ch 0 h F own h F2 own ∧ CompR G h F2 own x (C.wk C.ka C.kc []) f (mV σ 5 (Int32.ofNat 0))) := by
  obtain ⟨r1, r2, r3, r4, r5, r6, r7, r8⟩ := id R.pa
  have r41 := r4.1
  change WA G d mX4_forget 0 [.ref C.p] [] _ _
  refine wa_aloadV_n (pc := 0) (y := mX4_forget) dX4_forget_0 rfl (by first | exact rf_s _ | exact rf_n | exact rf_q _) ?_
  refine wf_get (k := 3) (l := 2) 0 dX4_forget_1 (by assumption) rfl q396 (Or.inl rfl) (Nat.le_of_ble_eq_true rfl) (Nat.le_of_ble_eq_true rfl) (by (repeat (first | exact updF_self _ _ _ _ | (apply updF_i; · decide) | (apply updF_a; · first | assumption | (apply Ne.symm; assumption) | omega) | (apply newF_a; · first | assumption | (apply Ne.symm; assumption) | omega) | exact newL_self (by rfl) | exact newF_self (by rfl) | (apply cpyF_a; · first | assumption | (apply Ne.symm; assumption) | omega))) <;> first | assumption | rfl) ?_
  refine wa_callV (pc := 4) (s_J2_clear (d := d - 1) r4) dX4_forget_4 okJ2_clear q1152 q1153 q1154 (sF_at (by assumption)) rfl rfl rfl (Nat.le_of_ble_eq_true rfl) (Nat.le_of_ble_eq_true rfl) (by omega) ?_
  rintro _ _ - - ⟨rfl, F2, rfl, L2, fr2⟩
  refine aft_0 (pc2 := 7) ?_ rfl
  refine wa_return (pc := 7) (y := mX4_forget) dX4_forget_7 rfl ⟨rfl, F2, rfl, Ch.past R fr2, (R.pst (m := 0) fr2 (by rw [List.take_zero]; exact L2) (Nat.zero_le _)).1⟩
theorem s_X4_takeLatest (hd : 8 ≤ d) (R : CompR G h F own x C f σ) : MA G d mX4_takeLatest [.ref C.p] (sF h F) (fun r h' => C.hs.length = 0 ∧ ThQ 26 h F r h' ∨ ∃ m s F2, C.hs.length = m + 1 ∧ C.hs[m]? = some s ∧ r = .inl (some (.ref s)) ∧ h' = sF h F2 ∧ Ch 0 h F own h F2 own ∧ CompR G h F2 own x (C.wk C.ka C.kc (C.hs.take m)) f (mV σ 5 (Int32.ofNat m)) ∧ ShowAt G h F2 own s (fun j => σ.1 4 (462 * m + j))) := by
  obtain ⟨r1, r2, r3, r4, r5, r6, r7, r8⟩ := id R.pa
  have r41 := r4.1
  change WA G d mX4_takeLatest 0 [.ref C.p] [] _ _
  by_cases h0 : C.hs.length = 0
  · refine wa_aloadV_n (pc := 0) (y := mX4_takeLatest) dX4_takeLatest_0 rfl (by first | exact rf_s _ | exact rf_n | exact rf_q _) ?_
    refine wf_get (k := 3) (l := 2) 0 dX4_takeLatest_1 (by assumption) rfl q396 (Or.inl rfl) (Nat.le_of_ble_eq_true rfl) (Nat.le_of_ble_eq_true rfl) (by (repeat (first | exact updF_self _ _ _ _ | (apply updF_i; · decide) | (apply updF_a; · first | assumption | (apply Ne.symm; assumption) | omega) | (apply newF_a; · first | assumption | (apply Ne.symm; assumption) | omega) | exact newL_self (by rfl) | exact newF_self (by rfl) | (apply cpyF_a; · first | assumption | (apply Ne.symm; assumption) | omega))) <;> first | assumption | rfl) ?_
    refine wa_callV (pc := 4) (s_J2_size (d := d - 1) r4) dX4_takeLatest_4 okJ2_size q1768 q1145 q1146 (sF_at (by assumption)) rfl rfl rfl (Nat.le_of_ble_eq_true rfl) (Nat.le_of_ble_eq_true rfl) (by omega) ?_
    rintro _ _ - - ⟨rfl, rfl⟩
    refine aft_v (pc2 := 7) ?_ rfl
    refine wa_if_le (pc := 7) 14 dX4_takeLatest_7 rfl (fun hb7 => ?_) (fun hb7 => absurd (by rw [h0]; decide) hb7)
    refine wa_iconst (pc := 14) (y := mX4_takeLatest) (Int32.ofNat 0) dX4_takeLatest_14 rfl ?_
    refine wa_callSN (pc := 15) (s_X1_checkElement (d := d - 1) (b := false) (by omega)) dX4_takeLatest_15 okX1_checkElement rfl q2621 q2022 rfl rfl (Nat.le_of_ble_eq_true rfl) (Nat.le_of_ble_eq_true rfl) (by omega) ?_
    rintro r h' - - (⟨hb, -, -⟩ | ⟨-, T⟩)
    · cases hb
    exact T.after ⟨_, rfl⟩ rfl fun h2 F2 q fr cst iq => Or.inl ⟨h0, h2, F2, q, rfl, rfl, fr, cst, iq⟩
  · obtain ⟨m, hm⟩ : ∃ m, C.hs.length = m + 1 := ⟨C.hs.length - 1, by omega⟩
    obtain ⟨s, hs⟩ : ∃ s, C.hs[m]? = some s := ⟨_, List.getElem?_eq_getElem (by omega)⟩
    have hsl := (R.hi m s hs).is
    refine wa_aloadV_n (pc := 0) (y := mX4_takeLatest) dX4_takeLatest_0 rfl (by first | exact rf_s _ | exact rf_n | exact rf_q _) ?_
    refine wf_get (k := 3) (l := 2) 0 dX4_takeLatest_1 (by assumption) rfl q396 (Or.inl rfl) (Nat.le_of_ble_eq_true rfl) (Nat.le_of_ble_eq_true rfl) (by (repeat (first | exact updF_self _ _ _ _ | (apply updF_i; · decide) | (apply updF_a; · first | assumption | (apply Ne.symm; assumption) | omega) | (apply newF_a; · first | assumption | (apply Ne.symm; assumption) | omega) | exact newL_self (by rfl) | exact newF_self (by rfl) | (apply cpyF_a; · first | assumption | (apply Ne.symm; assumption) | omega))) <;> first | assumption | rfl) ?_
    refine wa_callV (pc := 4) (s_J2_size (d := d - 1) r4) dX4_takeLatest_4 okJ2_size q1768 q1145 q1146 (sF_at (by assumption)) rfl rfl rfl (Nat.le_of_ble_eq_true rfl) (Nat.le_of_ble_eq_true rfl) (by omega) ?_
    rintro _ _ - - ⟨rfl, rfl⟩
    refine aft_v (pc2 := 7) ?_ rfl
    refine wa_if_le (pc := 7) 14 dX4_takeLatest_7 rfl (fun hb7 => absurd hb7 (by rw [hm, iN_pos (by omega)]; omega)) (fun hb7 => ?_)
    refine wa_iconst (pc := 10) (y := mX4_takeLatest) (Int32.ofNat 1) dX4_takeLatest_10 rfl ?_
    refine wa_goto (pc := 11) (y := mX4_takeLatest) 15 dX4_takeLatest_11 rfl ?_
    refine wa_callSN (pc := 15) (s_X1_checkElement (d := d - 1) (b := true) (by omega)) dX4_takeLatest_15 okX1_checkElement rfl q2621 q2022 rfl rfl (Nat.le_of_ble_eq_true rfl) (Nat.le_of_ble_eq_true rfl) (by omega) ?_
    rintro r h' - - (⟨-, rfl, rfl⟩ | ⟨hb, -⟩)
    rotate_left
    · cases hb
    refine aft_0 (pc2 := 18) ?_ rfl
    refine wa_aloadV_n (pc := 18) (y := mX4_takeLatest) dX4_takeLatest_18 rfl (by first | exact rf_s _ | exact rf_n | exact rf_q _) ?_
    refine wf_get (k := 3) (l := 2) 0 dX4_takeLatest_19 (by assumption) rfl q396 (Or.inl rfl) (Nat.le_of_ble_eq_true rfl) (Nat.le_of_ble_eq_true rfl) (by (repeat (first | exact updF_self _ _ _ _ | (apply updF_i; · decide) | (apply updF_a; · first | assumption | (apply Ne.symm; assumption) | omega) | (apply newF_a; · first | assumption | (apply Ne.symm; assumption) | omega) | exact newL_self (by rfl) | exact newF_self (by rfl) | (apply cpyF_a; · first | assumption | (apply Ne.symm; assumption) | omega))) <;> first | assumption | rfl) ?_
    refine wa_aloadV_n (pc := 22) (y := mX4_takeLatest) dX4_takeLatest_22 rfl (by first | exact rf_s _ | exact rf_n | exact rf_q _) ?_
    refine wf_get (k := 3) (l := 2) 0 dX4_takeLatest_23 (by assumption) rfl q396 (Or.inl rfl) (Nat.le_of_ble_eq_true rfl) (Nat.le_of_ble_eq_true rfl) (by (repeat (first | exact updF_self _ _ _ _ | (apply updF_i; · decide) | (apply updF_a; · first | assumption | (apply Ne.symm; assumption) | omega) | (apply newF_a; · first | assumption | (apply Ne.symm; assumption) | omega) | exact newL_self (by rfl) | exact newF_self (by rfl) | (apply cpyF_a; · first | assumption | (apply Ne.symm; assumption) | omega))) <;> first | assumption | rfl) ?_
    refine wa_callV (pc := 26) (s_J2_size (d := d - 1) r4) dX4_takeLatest_26 okJ2_size q1768 q1145 q1146 (sF_at (by assumption)) rfl rfl rfl (Nat.le_of_ble_eq_true rfl) (Nat.le_of_ble_eq_true rfl) (by omega) ?_
    rintro _ _ - - ⟨rfl, rfl⟩
    refine aft_v (pc2 := 29) ?_ rfl
    refine wa_iconst (pc := 29) (y := mX4_takeLatest) (Int32.ofNat 1) dX4_takeLatest_29 rfl ?_
    refine wa_isub (pc := 30) (y := mX4_takeLatest) dX4_takeLatest_30 ?_
    rw [iN_sub (show 1 ≤ C.hs.length by omega), show C.hs.length - 1 = m by omega]
    refine wa_callV (pc := 31) (s_J2_remove (d := d - 1) (by omega) r4 hs) dX4_takeLatest_31 okJ2_remove q1769 q1770 q1771 (sF_at (by assumption)) rfl rfl rfl (Nat.le_of_ble_eq_true rfl) (Nat.le_of_ble_eq_true rfl) (by omega) ?_
    rintro _ _ - - ⟨rfl, F2, rfl, L2, fr2⟩
    refine aft_v (pc2 := 34) ?_ rfl
    refine wa_castY (pc := 34) (y := mX4_takeLatest) (k := 1) dX4_takeLatest_34 (sF_at (by assumption)) rfl q1802 q1795 ?_
    refine wa_areturnV (pc := 37) (y := mX4_takeLatest) (.object "CueStack$Copied") dX4_takeLatest_37 rfl (Or.inl ⟨_, rfl⟩) (by first | exact rf_s _ | exact rf_n | exact rf_q _) ?_
    have e9 : C.hs.eraseIdx m = C.hs.take m := by rw [List.eraseIdx_eq_take_drop_succ, List.drop_eq_nil_of_le (by omega), List.append_nil]
    rw [e9] at L2
    have R2 := R.pst (m := m) fr2 L2 (by omega)
    exact Or.inr ⟨m, s, F2, hm, hs, rfl, rfl, Ch.past R fr2, R2.1, R2.2 _ _ (R.hi m s hs)⟩
end COMP5
