/-! ===== instructionsOf ===== -/
section INSOF
variable {G : GG} {d n : Nat} {h h1 h2 h3 h4 : AH} {F F1 F2 F3 F4 : Nat → Nat → Value} {s c k i j p q k2 a it : Nat} {A A2 : SA} {f f2 g g2 : Nat → Int32} {O O2 P : Nat → Prop} {ns ns2 fs2 : List Nat} {v mc : Int32} {cur : Option Nat}
/-- iterators are none of the show's cells -/
theorem ShowR.noIt (S : ShowR G h F O s A f g) (hi : Is h it k 5) (hk : k = 16 ∨ k = 18 ∨ k = 20) : ¬ SFp h F A s it := fun hb => by
  rcases hb with hb | hb | hb | hb | hb | hb | ⟨x, hx, hb⟩
  · exact (hi.ne S.is (by omega)) hb
  · exact (hi.ne S.hm (by omega)) hb
  · rcases hb with e | ⟨e, z, hz⟩
    · exact (hi.ne S.cl.1 (by omega)) e
    · exact (hi.ne hz (by omega)) e
  · rcases hb with e | ⟨e, z, hz⟩
    · exact (hi.ne S.fl.1 (by omega)) e
    · exact (hi.ne hz (by omega)) e
  · exact MFp.no S.im hi (by omega) hb
  · obtain ⟨c, hc⟩ := List.mem_iff_getElem?.mp hb
    exact hi.ne (S.fad c _ hc).1 (by omega) rfl
  · obtain ⟨k2, hk2⟩ := List.mem_iff_getElem?.mp hx
    have C := S.cue k2 _ hk2
    rcases hb with e | e | e
    · exact hi.ne C.1 (by omega) e
    · exact hi.ne C.2.2.2.2.2.2.2.2.1 (by omega) e
    · exact hi.ne C.2.2.2.2.2.2.2.2.2.1 (by omega) e
theorem ShowR.itG (S : ShowR G h F O s A f g) (hi : Is h it k 5) (hk : k = 16 ∨ k = 18 ∨ k = 20) (fr : Fr (· = it) h F h F2) : ShowR G h F2 O s A f g :=
  S.fr fr (fun b hb e => S.noIt hi hk (e ▸ hb)) (fun b hk2 e => by subst e; rcases hk2 with e | e | e <;> exact absurd rfl (hi.ne e (by omega)))
/-- a view of the map was made -/
theorem ShowR.vw {m : Nat} {k9 : Nat} {r : RR} {h' : AH} (S : ShowR G h F O s A f g) (Q : VwQ A.im i k9 h F A.ns A.ks r h') :
    ∃ (h2 : AH) (F2 : Nat → Nat → Value) (v : Nat), r = .inl (some (.ref v)) ∧ h' = sF h2 F2 ∧ Fr (OP O h) h F h2 F2 ∧ Cst 1 h h2 ∧ ShowR G h2 F2 (fun b => O b ∨ h.1 ≤ b) s A f g ∧ Is h2 v k9 2 ∧ F2 v 0 = .int 0 ∧ F2 v 1 = .ref A.im := by
  obtain ⟨h2, F2, v, rfl, rfl, M2, t2, e2, st, ⟨w1, w2, w3, -⟩, -⟩ := Q
  exact ⟨h2, F2, v, rfl, rfl, S.mfr st.1, ⟨by have := st.2.2.1.1; omega, by have := st.2.2.1.2; omega⟩, S.map M2 t2 st (fun _ _ _ => rfl) S.ni S.ni2 (fun i e he => by rw [e2] at he; exact S.insE he), w1, w2, w3⟩
theorem cntN_s (f : Nat → Int32) (v : Int32) (k : Nat) : cntN f v (k + 1) = cntN f v k + (if f (162 + 4 * k) = v then 1 else 0) := rfl
theorem io_15 (hd : 4 ≤ d) (S : ShowR G h1 F1 O s A f g) (hit : Is h1 it 16 5) (hmc : F1 A.im 3 = .int mc) : ∀ (suf pre : List Nat) (F2 : Nat → Nat → Value) (cur : Option Nat) (v4 : Value), A.ns = pre ++ suf → v4.category = 1 → Fr (· = it) h1 F1 h1 F2 → ItR h1 F2 it 16 A.im suf.head? cur mc →
    WA G d mX2_instructionsOf 15 [.ref s, .int v, .int (cntN f v pre.length), .ref it, v4] [] (sF h1 F2) (fun r h' => r = .inl (some (.int (cntN f v (u (f 1))))) ∧ ∃ F3, h' = sF h1 F3 ∧ Fr (· = it) h1 F1 h1 F3) := by
  intro suf
  induction suf with
  | nil =>
    intro pre F2 cur v4 hns h4 fr I
    have hni := S.ni
    rw [hns, List.append_nil] at hni
    refine wa_aloadV_n (pc := 15) (y := mX2_instructionsOf) dX2_instructionsOf_15 rfl (by first | exact rf_s _ | exact rf_n | exact rf_q _) ?_
    refine wa_callF (k := 16) (pc := 16) (s_J29_hasNext_16 (d := d - 1) I) dX2_instructionsOf_16 okJ29_hasNext rfl q1869 ⟨q1461, q1460, q1472, q1476, q1474⟩ (by decide) q1475 q1471 (sF_at (by assumption)) rfl rfl rfl rfl (Nat.le_of_ble_eq_true rfl) (Nat.le_of_ble_eq_true rfl) (by omega) ?_
    rintro _ _ - - ⟨rfl, rfl⟩
    refine aft_v (pc2 := 21) ?_ rfl
    refine wa_if_eq (pc := 21) 55 dX2_instructionsOf_21 rfl (fun hb21 => ?_) (fun hb21 => absurd rfl hb21)
    refine wa_iload_n (pc := 55) (y := mX2_instructionsOf) dX2_instructionsOf_55 rfl ?_
    refine wa_ireturn (pc := 56) (y := mX2_instructionsOf) .int dX2_instructionsOf_56 rfl rfl ⟨by rw [hni], F2, rfl, fr⟩
  | cons p suf ih =>
    intro pre F2 cur v4 hns h4 fr I
    obtain ⟨M2, es2, tk2, fp2, m2⟩ := S.im.itf hit (Or.inl rfl) fr
    have hpi : A.ns[pre.length]? = some p := by rw [hns, List.getElem?_append_right (Nat.le_refl _), Nat.sub_self]; rfl
    obtain ⟨i1, -, -⟩ := S.ins _ p hpi
    have hpm := List.mem_of_getElem? hpi
    have hkp := S.key hpm
    have ek : kF F2 p = kF F1 p := by
      have h9 : (kF F2 p, vF F2 p) = (kF F1 p, vF F1 p) := by
        have a1 : (es F2 A.ns)[pre.length]? = some (kF F2 p, vF F2 p) := es_get.mpr ⟨p, hpi, rfl⟩
        have a2 : (es F1 A.ns)[pre.length]? = some (kF F1 p, vF F1 p) := es_get.mpr ⟨p, hpi, rfl⟩
        rw [es2, a2] at a1
        exact (Option.some.inj a1).symm
      exact congrArg Prod.fst h9
    rw [hns] at M2
    refine wa_aloadV_n (pc := 15) (y := mX2_instructionsOf) dX2_instructionsOf_15 rfl (by first | exact rf_s _ | exact rf_n | exact rf_q _) ?_
    refine wa_callF (k := 16) (pc := 16) (s_J29_hasNext_16 (d := d - 1) I) dX2_instructionsOf_16 okJ29_hasNext rfl q1869 ⟨q1461, q1460, q1472, q1476, q1474⟩ (by decide) q1475 q1471 (sF_at (by assumption)) rfl rfl rfl rfl (Nat.le_of_ble_eq_true rfl) (Nat.le_of_ble_eq_true rfl) (by omega) ?_
    rintro _ _ - - ⟨rfl, rfl⟩
    refine aft_v (pc2 := 21) ?_ rfl
    refine wa_if_eq (pc := 21) 55 dX2_instructionsOf_21 rfl (fun hb21 => absurd hb21 (by simp [bI])) (fun hb21 => ?_)
    refine wa_aloadV_n (pc := 24) (y := mX2_instructionsOf) dX2_instructionsOf_24 rfl (by first | exact rf_s _ | exact rf_n | exact rf_q _) ?_
    refine wa_callF (k := 16) (pc := 25) (s_J31_next (d := d - 1) (by omega) I M2 (by rw [m2]; exact hmc)) dX2_instructionsOf_25 okJ31_next rfl q1871 ⟨q1483, q1482, q1534, q1532, q1474⟩ (by decide) q1531 q1533 (sF_at (by assumption)) rfl rfl rfl rfl (Nat.le_of_ble_eq_true rfl) (Nat.le_of_ble_eq_true rfl) (by omega) ?_
    rintro _ _ - - ⟨q, hq, K, rfl, rfl⟩
    refine aft_v (pc2 := 30) ?_ rfl
    have frI : Fr (· = it) h1 F2 h1 (itF F2 it p suf) := itF_fr
    have I3 : ItR h1 (itF F2 it p suf) it 16 A.im suf.head? (some p) mc := I.step
    have K3 := K.1
    have hqi : q ≠ it := K.1.ne hit (by decide)
    have kc : itF F2 it p suf q 0 = .int (Int32.ofNat (kF F1 p / 12)) := (frI.at K.1.lt hqi 0).trans (by rw [← ek]; exact K.2.1)
    have fr3 := fr.trans frI (fun b hb e => e)
    generalize itF F2 it p suf = F5 at *
    refine wa_castS (pc := 30) (y := mX2_instructionsOf) (k := 4) dX2_instructionsOf_30 (sF_at (by assumption)) rfl q414 ?_
    refine wa_astoreV (pc := 33) (y := mX2_instructionsOf) dX2_instructionsOf_33 (Nat.le_of_ble_eq_true rfl) (by first | rfl | (simp [okst, rf_cat] <;> assumption)) (by first | exact rf_s _ | exact rf_n | exact rf_q _) ?_
    simp only [List.set_cons_zero, List.set_cons_succ]
    refine wa_iload_n (pc := 35) (y := mX2_instructionsOf) dX2_instructionsOf_35 rfl ?_
    refine wa_aloadV (pc := 36) (y := mX2_instructionsOf) dX2_instructionsOf_36 rfl (by first | exact rf_s _ | exact rf_n | exact rf_q _) ?_
    refine wf_getN (k := 4) (l := 2) 0 dX2_instructionsOf_38 (by assumption) rfl q436 (Or.inl rfl) (Nat.le_of_ble_eq_true rfl) (Nat.le_of_ble_eq_true rfl) (by (repeat (first | exact updF_self _ _ _ _ | (apply updF_i; · decide) | (apply updF_a; · first | assumption | (apply Ne.symm; assumption) | omega) | (apply newF_a; · first | assumption | (apply Ne.symm; assumption) | omega) | exact newL_self (by rfl) | exact newF_self (by rfl) | (apply cpyF_a; · first | assumption | (apply Ne.symm; assumption) | omega))) <;> first | assumption | rfl) ?_
    refine wa_iload_n (pc := 41) (y := mX2_instructionsOf) dX2_instructionsOf_41 rfl ?_
    refine wa_icmp_ne (pc := 42) 49 dX2_instructionsOf_42 rfl (fun hb42 => ?_) (fun hb42 => ?_)
    · have e9 : cntN f v (pre ++ [p]).length = cntN f v pre.length + Int32.ofNat 0 := by rw [List.length_append]; show cntN f v (pre.length + 1) = _; rw [cntN_s, i1, if_neg hb42]; rfl
      refine wa_iconst (pc := 49) (y := mX2_instructionsOf) (Int32.ofNat 0) dX2_instructionsOf_49 rfl ?_
      first | with_reducible refine wa_iaddN (pc := 50) (y := mX2_instructionsOf) dX2_instructionsOf_50 ?_ | refine wa_iadd (pc := 50) (y := mX2_instructionsOf) dX2_instructionsOf_50 ?_
      refine wa_istore_n (pc := 51) (y := mX2_instructionsOf) dX2_instructionsOf_51 (Nat.le_of_ble_eq_true rfl) (by first | rfl | (simp [okst, rf_cat] <;> assumption)) ?_
      change WA _ _ _ _ (List.set _ 2 _) _ _ _
      simp only [List.set_cons_zero, List.set_cons_succ]
      refine wa_goto (pc := 52) (y := mX2_instructionsOf) 15 dX2_instructionsOf_52 rfl ?_
      have := ih (pre ++ [p]) F5 (some p) (.ref q) (by rw [hns, List.append_assoc]; rfl) rfl fr3 I3; rw [e9] at this; exact this
    · have e9 : cntN f v (pre ++ [p]).length = cntN f v pre.length + Int32.ofNat 1 := by rw [List.length_append]; show cntN f v (pre.length + 1) = _; rw [cntN_s, i1, if_pos hb42]; rfl
      refine wa_iconst (pc := 45) (y := mX2_instructionsOf) (Int32.ofNat 1) dX2_instructionsOf_45 rfl ?_
      refine wa_goto (pc := 46) (y := mX2_instructionsOf) 50 dX2_instructionsOf_46 rfl ?_
      first | with_reducible refine wa_iaddN (pc := 50) (y := mX2_instructionsOf) dX2_instructionsOf_50 ?_ | refine wa_iadd (pc := 50) (y := mX2_instructionsOf) dX2_instructionsOf_50 ?_
      refine wa_istore_n (pc := 51) (y := mX2_instructionsOf) dX2_instructionsOf_51 (Nat.le_of_ble_eq_true rfl) (by first | rfl | (simp [okst, rf_cat] <;> assumption)) ?_
      change WA _ _ _ _ (List.set _ 2 _) _ _ _
      simp only [List.set_cons_zero, List.set_cons_succ]
      refine wa_goto (pc := 52) (y := mX2_instructionsOf) 15 dX2_instructionsOf_52 rfl ?_
      have := ih (pre ++ [p]) F5 (some p) (.ref q) (by rw [hns, List.append_assoc]; rfl) rfl fr3 I3; rw [e9] at this; exact this
theorem s_X2_instructionsOf (hd : 7 ≤ d) (S : ShowR G h F O s A f g) : MA G d mX2_instructionsOf [.ref s, .int v] (sF h F) (fun r h' => ∃ (h2 : AH) (F2 : Nat → Nat → Value), r = .inl (some (.int (cntN f v (u (f 1))))) ∧ h' = sF h2 F2 ∧ Fr (OP O h) h F h2 F2 ∧ Cst 5 h h2 ∧ ShowR G h2 F2 (fun b => O b ∨ h.1 ≤ b) s A f g) := by
  have S_is := S.is; have S_0 := S.f0; have S_1 := S.f1; have S_2 := S.f2; have S_3 := S.f3; have S_4 := S.f4; have S_5 := S.f5; have S_6 := S.f6; have S_7 := S.f7; have S_h := S.hm; have S_c := S.cl.1; have S_l := S.fl.1; have S_m := S.im.1
  change WA G d mX2_instructionsOf 0 [.ref s, .int v, .retAddr 0, .retAddr 0, .retAddr 0] [] _ _
  refine wa_iconst (pc := 0) (y := mX2_instructionsOf) (Int32.ofNat 0) dX2_instructionsOf_0 rfl ?_
  refine wa_istore_n (pc := 1) (y := mX2_instructionsOf) dX2_instructionsOf_1 (Nat.le_of_ble_eq_true rfl) (by first | rfl | (simp [okst, rf_cat] <;> assumption)) ?_
  change WA _ _ _ _ (List.set _ 2 _) _ _ _
  simp only [List.set_cons_zero, List.set_cons_succ]
  refine wa_aloadV_n (pc := 2) (y := mX2_instructionsOf) dX2_instructionsOf_2 rfl (by first | exact rf_s _ | exact rf_n | exact rf_q _) ?_
  refine wf_get (k := 1) (l := 8) 1 dX2_instructionsOf_3 (by assumption) rfl q357 (Or.inl rfl) (Nat.le_of_ble_eq_true rfl) (Nat.le_of_ble_eq_true rfl) (by (repeat (first | exact updF_self _ _ _ _ | (apply updF_i; · decide) | (apply updF_a; · first | assumption | (apply Ne.symm; assumption) | omega) | (apply newF_a; · first | assumption | (apply Ne.symm; assumption) | omega) | exact newL_self (by rfl) | exact newF_self (by rfl) | (apply cpyF_a; · first | assumption | (apply Ne.symm; assumption) | omega))) <;> first | assumption | rfl) ?_
  refine wa_callV (pc := 6) (s_J5_keySet (d := d - 1) (by omega) S.im S.tk) dX2_instructionsOf_6 okJ5_keySet q1845 q1846 q1847 (sF_at (by assumption)) rfl rfl rfl (Nat.le_of_ble_eq_true rfl) (Nat.le_of_ble_eq_true rfl) (by omega) ?_
  rintro r h' - - Q
  obtain ⟨h1, F1, v1, rfl, rfl, fr1, cst1, S1, iv, v10, v11⟩ := S.vw (m := 0) Q
  refine aft_v (pc2 := 9) ?_ rfl
  obtain ⟨mc, hmc⟩ := S1.im.2.2.1
  refine wa_callF (k := 15) (pc := 9) (s_J36_iterator (d := d - 1) (by omega) iv v10 v11 S1.im hmc) dX2_instructionsOf_9 okJ36_iterator rfl q1867 ⟨q1408, q1407, q1444, q1442, q1440⟩ (by decide) q1441 q1443 (sF_at (by assumption)) rfl rfl rfl rfl (Nat.le_of_ble_eq_true rfl) (Nat.le_of_ble_eq_true rfl) (by omega) ?_
  rintro _ _ - - ⟨F2, rfl, rfl, I2, hF2⟩
  refine aft_v (pc2 := 14) ?_ rfl
  have fr2 : Fr NoP h1 F1 (hNew h1 16 5) F2 := ⟨Ext.new, fun b hb _ => hF2 b hb⟩
  have S2 := S1.rd fr2
  refine wa_astoreV_n (pc := 14) (y := mX2_instructionsOf) dX2_instructionsOf_14 (Nat.le_of_ble_eq_true rfl) (by first | rfl | (simp [okst, rf_cat] <;> assumption)) (by first | exact rf_s _ | exact rf_n | exact rf_q _) ?_
  change WA _ _ _ _ (List.set _ 3 _) _ _ _
  simp only [List.set_cons_zero, List.set_cons_succ]
  refine WA.mono (io_15 (s := s) (by omega) S2 I2.1 ((fr2.at S1.im.1.lt (fun q => q) 3).trans hmc) A.ns [] F2 none _ rfl rfl Fr.refl I2) ?_
  rintro r h' - - ⟨rfl, F3, rfl, fr3⟩
  exact ⟨hNew h1 16 5, F3, rfl, rfl, (fr1.trans fr2 (fun _ _ q => q.elim)).trans fr3 (fun b hb e => absurd e (by have := fr1.1.1; omega)), ⟨by have := cst1.1; show h1.1 + 1 ≤ _; omega, by have := cst1.2; show h1.2.1 + 5 ≤ _; omega⟩, S2.itG I2.1 (Or.inl rfl) fr3⟩
end INSOF
