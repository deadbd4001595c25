/-! ===== removeInstructions ===== -/
section RMINS
variable {G : GG} {d n : Nat} {h h1 h2 h3 : AH} {F F1 F2 F3 : Nat → Nat → Value} {s c k i j p q a m it : Nat} {A : SA} {f g : Nat → Int32} {O P : Nat → Prop} {x z v had mc : Int32} {ns ns2 : List Nat} {cur : Option Nat}
/-- going along the keys and taking those of a cue -/
def RmiP (h : AH) (F : Nat → Nat → Value) (m n : Nat) (ns : List Nat) (k : Nat) (h1 : AH) (F2 : Nat → Nat → Value) (ns2 : List Nat) : Prop :=
  MapR h1 F2 m ns2 ∧ TK h1 F2 m k ∧ es F2 ns2 = (es F ns).filter (fun e => !decide (e.1 / 12 = n)) ∧ Fr (MFp F m ns) h F h1 F2 ∧ ∀ z, MFp F2 m ns2 z → MFp F m ns z ∨ h.1 ≤ z
theorem rmi_13 (hd : 12 ≤ d) (hG : StG G) (hn : n < 100) (hit : Is h1 it 16 5) (hith : h.1 ≤ it) (hl : ns.length ≤ 96) : ∀ (suf pre : List Nat) (F2 : Nat → Nat → Value) (mc : Int32) (cur : Option Nat), MapR h1 F2 m (pre ++ suf) → TK h1 F2 m k → F2 m 3 = .int mc → ItR h1 F2 it 16 m suf.head? cur mc → (pre ++ suf).length ≤ ns.length → es F2 pre ++ (es F2 suf).filter (fun e => !decide (e.1 / 12 = n)) = (es F ns).filter (fun e => !decide (e.1 / 12 = n)) → Fr (MFp F m ns) h F h1 F2 → (∀ z, MFp F2 m (pre ++ suf) z → MFp F m ns z ∨ h.1 ≤ z) →
    WA G d mX2_removeInstructions 13 [.ref s, .int (Int32.ofNat n), .ref it] [] (sF h1 F2) (fun r h' => r = .inl none ∧ ∃ F3 ns3, h' = sF h1 F3 ∧ RmiP h F m n ns k h1 F3 ns3) := by
  intro suf
  induction suf with
  | nil =>
    intro pre F2 mc cur M t h3 I hle hes fr hfp
    refine wa_aloadV_n (pc := 13) (y := mX2_removeInstructions) dX2_removeInstructions_13 rfl (by first | exact rf_s _ | exact rf_n | exact rf_q _) ?_
    refine wa_callF (k := 16) (pc := 14) (s_J29_hasNext_16 (d := d - 1) I) dX2_removeInstructions_14 okJ29_hasNext rfl q1869 ⟨q1461, q1460, q1472, q1476, q1474⟩ (by decide) q1475 q1471 (sF_at (by assumption)) rfl rfl rfl rfl (Nat.le_of_ble_eq_true rfl) (Nat.le_of_ble_eq_true rfl) (by omega) ?_
    rintro _ _ - - ⟨rfl, rfl⟩
    refine aft_v (pc2 := 19) ?_ rfl
    refine wa_if_eq (pc := 19) 47 dX2_removeInstructions_19 rfl (fun hb19 => ?_) (fun hb19 => absurd rfl hb19)
    refine wa_return (pc := 47) (y := mX2_removeInstructions) dX2_removeInstructions_47 rfl ⟨rfl, F2, pre, rfl, by rw [← List.append_nil pre]; exact M, t, by rw [← hes]; simp [es], fr, fun z hz => hfp z (by rw [List.append_nil]; exact hz)⟩
  | cons p suf ih =>
    intro pre F2 mc cur M t h3 I hle hes fr hfp
    have m1 := M.1
    refine wa_aloadV_n (pc := 13) (y := mX2_removeInstructions) dX2_removeInstructions_13 rfl (by first | exact rf_s _ | exact rf_n | exact rf_q _) ?_
    refine wa_callF (k := 16) (pc := 14) (s_J29_hasNext_16 (d := d - 1) I) dX2_removeInstructions_14 okJ29_hasNext rfl q1869 ⟨q1461, q1460, q1472, q1476, q1474⟩ (by decide) q1475 q1471 (sF_at (by assumption)) rfl rfl rfl rfl (Nat.le_of_ble_eq_true rfl) (Nat.le_of_ble_eq_true rfl) (by omega) ?_
    rintro _ _ - - ⟨rfl, rfl⟩
    refine aft_v (pc2 := 19) ?_ rfl
    refine wa_if_eq (pc := 19) 47 dX2_removeInstructions_19 rfl (fun hb19 => absurd hb19 (by simp [bI])) (fun hb19 => ?_)
    refine wa_aloadV_n (pc := 22) (y := mX2_removeInstructions) dX2_removeInstructions_22 rfl (by first | exact rf_s _ | exact rf_n | exact rf_q _) ?_
    refine wa_callF (k := 16) (pc := 23) (s_J31_next (d := d - 1) (by omega) I M h3) dX2_removeInstructions_23 okJ31_next rfl q1871 ⟨q1483, q1482, q1534, q1532, q1474⟩ (by decide) q1531 q1533 (sF_at (by assumption)) rfl rfl rfl rfl (Nat.le_of_ble_eq_true rfl) (Nat.le_of_ble_eq_true rfl) (by omega) ?_
    rintro _ _ - - ⟨q, hq, K, rfl, rfl⟩
    refine aft_v (pc2 := 28) ?_ rfl
    have frI : Fr (· = it) h1 F2 h1 (itF F2 it p suf) := itF_fr
    obtain ⟨M3, es3, tk3, fp3, m3⟩ := M.itf hit (Or.inl rfl) frI
    have I3 : ItR h1 (itF F2 it p suf) it 16 m suf.head? (some p) mc := I.step
    have hx := K.2.2.2
    have K3 := K.1
    have hqi : q ≠ it := K.1.ne hit (by decide)
    have kc : itF F2 it p suf q 0 = .int (Int32.ofNat (kF F2 p / 12)) := (frI.at K.1.lt hqi 0).trans K.2.1
    have fr3 : Fr (MFp F m ns) h F h1 (itF F2 it p suf) := fr.trans frI (fun b hb e => absurd e (by omega))
    have es4 : es (itF F2 it p suf) pre = es F2 pre ∧ es (itF F2 it p suf) (p :: suf) = es F2 (p :: suf) := es_inj (es3.trans (es_app F2 pre (p :: suf)))
    have ep : kF (itF F2 it p suf) p = kF F2 p ∧ vF (itF F2 it p suf) p = vF F2 p ∧ es (itF F2 it p suf) suf = es F2 suf := by have e := es4.2; simp only [es, List.map_cons, List.cons.injEq, Prod.mk.injEq] at e; exact ⟨e.1.1, e.1.2, e.2⟩
    generalize itF F2 it p suf = F5 at *
    refine wa_castS (pc := 28) (y := mX2_removeInstructions) (k := 4) dX2_removeInstructions_28 (sF_at (by assumption)) rfl q414 ?_
    refine wf_getN (k := 4) (l := 2) 0 dX2_removeInstructions_31 (by assumption) rfl q436 (Or.inl rfl) (Nat.le_of_ble_eq_true rfl) (Nat.le_of_ble_eq_true rfl) (by (repeat (first | exact updF_self _ _ _ _ | (apply updF_i; · decide) | (apply updF_a; · first | assumption | (apply Ne.symm; assumption) | omega) | (apply newF_a; · first | assumption | (apply Ne.symm; assumption) | omega) | exact newL_self (by rfl) | exact newF_self (by rfl) | (apply cpyF_a; · first | assumption | (apply Ne.symm; assumption) | omega))) <;> first | assumption | rfl) ?_
    refine wa_iload_n (pc := 34) (y := mX2_removeInstructions) dX2_removeInstructions_34 rfl ?_
    refine wa_icmp_ne (pc := 35) 13 dX2_removeInstructions_35 rfl (fun hb35 => ?_) (fun hb35 => ?_)
    · have hn9 : ¬ kF F2 p / 12 = n := fun e => hb35 (by rw [e])
      first | exact ih pre F6 mc2 none M6 t6 h6 I6 hle6 hes6 (fr3.trans fr6 (fun b hb e => by rcases e with e | e; omega; exact (hfp b ((fp3 b).mp e)).elim (fun q => q) (fun q => by omega))) (fun z hz => hfp z ((fp3 z).mp (fp6 z hz))) | (have := ih (pre ++ [p]) F5 mc (some p) (by rw [List.append_assoc]; exact M3) (tk3 _ t) (by rw [m3]; exact h3) I3 (by simp at hle ⊢; omega) (by rw [es_app, es4.1, ep.2.2, ← hes, List.append_assoc]; congr 1; show (es F5 [p]) ++ _ = List.filter _ ((kF F2 p, vF F2 p) :: es F2 suf); rw [List.filter_cons_of_pos (by simp [hn9])]; simp [es, ep.1, ep.2.1]) fr3 (fun z hz => hfp z ((fp3 z).mp (by rw [List.append_assoc] at hz; exact hz))); exact this)
    · have hn9 : kF F2 p / 12 = n := (iN_eq (by omega) (by omega)).mp hb35
      refine wa_aloadV_n (pc := 38) (y := mX2_removeInstructions) dX2_removeInstructions_38 rfl (by first | exact rf_s _ | exact rf_n | exact rf_q _) ?_
      refine wa_callF (k := 16) (pc := 39) (s_J29_remove (d := d - 1) (by omega) hG I3 M3 (tk3 _ t) (by rw [m3]; exact h3) (by omega)) dX2_removeInstructions_39 okJ29_remove rfl q1882 ⟨q1884, q1883, q1911, q1936, q1474⟩ (by decide) q1935 q1910 (sF_at (by assumption)) rfl rfl rfl rfl (Nat.le_of_ble_eq_true rfl) (Nat.le_of_ble_eq_true rfl) (by omega) ?_
      rintro _ _ - - ⟨rfl, F6, mc2, rfl, M6, t6, h6, I6, es6, fr6, fp6⟩
      refine aft_0 (pc2 := 44) ?_ rfl
      obtain ⟨e61, e62⟩ := es_inj es6
      have hle6 : (pre ++ suf).length ≤ ns.length := by simp at hle ⊢; omega
      have hes6 : es F6 pre ++ (es F6 suf).filter (fun e => !decide (e.1 / 12 = n)) = (es F ns).filter (fun e => !decide (e.1 / 12 = n)) := by rw [e61, e62, es4.1, ep.2.2, ← hes]; congr 1; show _ = List.filter _ ((kF F2 p, vF F2 p) :: es F2 suf); rw [List.filter_cons_of_neg (by simp [hn9])]
      refine wa_goto (pc := 44) (y := mX2_removeInstructions) 13 dX2_removeInstructions_44 rfl ?_
      first | exact ih pre F6 mc2 none M6 t6 h6 I6 hle6 hes6 (fr3.trans fr6 (fun b hb e => by rcases e with e | e; omega; exact (hfp b ((fp3 b).mp e)).elim (fun q => q) (fun q => by omega))) (fun z hz => hfp z ((fp3 z).mp (fp6 z hz))) | (have := ih (pre ++ [p]) F5 mc (some p) (by rw [List.append_assoc]; exact M3) (tk3 _ t) (by rw [m3]; exact h3) I3 (by simp at hle ⊢; omega) (by rw [es_app, es4.1, ep.2.2, ← hes, List.append_assoc]; congr 1; show (es F5 [p]) ++ _ = List.filter _ ((kF F2 p, vF F2 p) :: es F2 suf); rw [List.filter_cons_of_pos (by simp [hn9])]; simp [es, ep.1, ep.2.1]) fr3 (fun z hz => hfp z ((fp3 z).mp (by rw [List.append_assoc] at hz; exact hz))); exact this)
theorem s_X2_removeInstructions (hd : 12 ≤ d) (hG : StG G) (hn : n < 100) (S : ShowR G h F O s A f g) : MA G d mX2_removeInstructions [.ref s, .int (Int32.ofNat n)] (sF h F) (ShmQ 10 G s A (rmg (Int32.ofNat n) (u (f 1)) f) g O h F) := by
  have S_is := S.is; have S_0 := S.f0; have S_1 := S.f1; have S_2 := S.f2; have S_3 := S.f3; have S_4 := S.f4; have S_5 := S.f5; have S_6 := S.f6; have S_7 := S.f7; have S_h := S.hm; have S_c := S.cl.1; have S_l := S.fl.1; have S_m := S.im.1
  have hni := S.ni2
  change WA G d mX2_removeInstructions 0 [.ref s, .int (Int32.ofNat n), .retAddr 0] [] _ _
  refine wa_aloadV_n (pc := 0) (y := mX2_removeInstructions) dX2_removeInstructions_0 rfl (by first | exact rf_s _ | exact rf_n | exact rf_q _) ?_
  refine wf_get (k := 1) (l := 8) 1 dX2_removeInstructions_1 (by assumption) rfl q357 (Or.inl rfl) (Nat.le_of_ble_eq_true rfl) (Nat.le_of_ble_eq_true rfl) (by (repeat (first | exact updF_self _ _ _ _ | (apply updF_i; · decide) | (apply updF_a; · first | assumption | (apply Ne.symm; assumption) | omega) | (apply newF_a; · first | assumption | (apply Ne.symm; assumption) | omega) | exact newL_self (by rfl) | exact newF_self (by rfl) | (apply cpyF_a; · first | assumption | (apply Ne.symm; assumption) | omega))) <;> first | assumption | rfl) ?_
  refine wa_callV (pc := 4) (s_J5_keySet (d := d - 1) (by omega) S.im S.tk) dX2_removeInstructions_4 okJ5_keySet q1845 q1846 q1847 (sF_at (by assumption)) rfl rfl rfl (Nat.le_of_ble_eq_true rfl) (Nat.le_of_ble_eq_true rfl) (by omega) ?_
  rintro _ _ - - ⟨h1, F1, v1, rfl, rfl, M1, t1, es1, st1, ⟨iv, v10, v11, v12⟩, hmj⟩
  refine aft_v (pc2 := 7) ?_ rfl
  obtain ⟨mc, hmc⟩ := M1.2.2.1
  refine wa_callF (k := 15) (pc := 7) (s_J36_iterator (d := d - 1) (by omega) iv v10 v11 M1 hmc) dX2_removeInstructions_7 okJ36_iterator rfl q1867 ⟨q1408, q1407, q1444, q1442, q1440⟩ (by decide) q1441 q1443 (sF_at (by assumption)) rfl rfl rfl rfl (Nat.le_of_ble_eq_true rfl) (Nat.le_of_ble_eq_true rfl) (by omega) ?_
  rintro _ _ - - ⟨F2, rfl, rfl, I2, hF2⟩
  refine aft_v (pc2 := 12) ?_ rfl
  have fr2 : Fr NoP h1 F1 (hNew h1 16 5) F2 := ⟨Ext.new, fun b hb _ => hF2 b hb⟩
  obtain ⟨M2, es2, tk2, fp2, m2⟩ := M1.fr fr2 (fun _ _ q => q) (fun _ _ q => q)
  refine wa_astoreV_n (pc := 12) (y := mX2_removeInstructions) dX2_removeInstructions_12 (Nat.le_of_ble_eq_true rfl) (by first | rfl | (simp [okst, rf_cat] <;> assumption)) (by first | exact rf_s _ | exact rf_n | exact rf_q _) ?_
  change WA _ _ _ _ (List.set _ 2 _) _ _ _
  simp only [List.set_cons_zero, List.set_cons_succ]
  refine WA.mono (rmi_13 (h := h) (F := F) (ns := A.ns) (s := s) hd hG hn I2.1 (by exact st1.1.1.1) (by omega) A.ns [] F2 mc none M2 (tk2 _ t1) (by rw [m2]; exact hmc) I2 (Nat.le_refl _) (by rw [es2, es1]; rfl) (st1.1.trans fr2 (fun _ _ q => q.elim)) (fun z hz => st1.2.2.2 z ((fp2 z).mp hz))) ?_
  rintro r h' - - ⟨rfl, F3, ns3, rfl, M3, t3, es3, fr3, fp3⟩
  have st3 : MStep 2 8 A.im h F A.ns A.ks (hNew h1 16 5) F3 ns3 A.ks := ⟨fr3, st1.2.1, ⟨by have := st1.2.2.1.1; show h1.1 + 1 ≤ _; omega, by have := st1.2.2.1.2; show h1.2.1 + 5 ≤ _; omega⟩, fp3⟩
  exact ⟨hNew h1 16 5, F3, ns3, A.ks, rfl, rfl, S.mfr fr3, ⟨by have := st3.2.2.1.1; omega, by have := st3.2.2.1.2; omega⟩, S.rmAll hn M3 t3 st3 es3⟩
end RMINS
