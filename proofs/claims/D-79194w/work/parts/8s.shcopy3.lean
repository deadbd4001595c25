/-! ===== Show.copy, whole ===== -/
section SHCOPY3
variable {G : GG} {d n : Nat} {h h2 h3 h4 : AH} {F F2 F3 F4 : Nat → Nat → Value} {s c k i j p q k2 a ca2 cc2 dla tma m v s2 im : Nat} {A A2 : SA} {f f2 g g2 : Nat → Int32} {O O2 P : Nat → Prop} {ns ns2 fs2 : List Nat}
/-- a map as its constructor leaves it -/
def MNew (F : Nat → Nat → Value) (m : Nat) : Prop := F m 0 = .null ∧ F m 1 = .null ∧ F m 6 = .null ∧ F m 7 = .null ∧ F m 4 = .int 0
/-- the instructions and the homes -/
theorem cp_49 (hd : 15 ≤ d) (hG : StG G) (fr : Fr NoP h F h2 F2) (cst : Cst 1400 h h2) (hO : ∀ b, O b → b < h.1) (S : ShowR G h2 F2 O s A f g) (D : ShowR G h2 F2 (fun b => h.1 ≤ b) s2 A2 (fK f (u (f 0))) (fun _ => 0)) (hns : A2.ns = []) (hm : MNew F2 A2.im) :
    WA G d mX2_copy 49 [.ref s, .ref s2, .int (Int32.ofNat (u (f 0)))] [] (sF h2 F2) (CpyQ G O s A f g h F) := by
  have hni := S.ni
  have hni2 := S.ni2
  have MD0 := D.im
  rw [hns] at MD0
  obtain ⟨f0, f1, f6, f7, f4⟩ := hm
  have hmm : ¬ MFp F2 A.im A.ns A2.im := fun q => by
    have h1 := hO _ (S.own _ (Or.inr (Or.inr (Or.inr (Or.inr (Or.inl q))))))
    have h2 := D.own A2.im (Or.inr (Or.inr (Or.inr (Or.inr (Or.inl (Or.inl rfl))))))
    omega
  have hdm : ∀ b, MFp F2 A2.im [] b → h.1 ≤ b ∧ b < h2.1 := fun b hb => ⟨D.own b (Or.inr (Or.inr (Or.inr (Or.inr (Or.inl (by rw [hns]; exact hb)))))), MFp.lt MD0 hb⟩
  have hsm : ∀ b, MFp F2 A.im A.ns b → O b := fun b hb => S.own b (Or.inr (Or.inr (Or.inr (Or.inr (Or.inl hb)))))
  have S_is := S.is; have S_0 := S.f0; have S_1 := S.f1; have S_2 := S.f2; have S_3 := S.f3; have S_4 := S.f4; have S_5 := S.f5; have S_6 := S.f6; have S_7 := S.f7; have S_h := S.hm; have S_c := S.cl.1; have S_l := S.fl.1; have S_m := S.im.1
  have D_is := D.is; have D_0 := D.f0; have D_1 := D.f1; have D_2 := D.f2; have D_3 := D.f3; have D_4 := D.f4; have D_5 := D.f5; have D_6 := D.f6; have D_7 := D.f7; have D_h := D.hm; have D_c := D.cl.1; have D_l := D.fl.1; have D_m := D.im.1
  refine wa_aloadV_n (pc := 49) (y := mX2_copy) dX2_copy_49 rfl (by first | exact rf_s _ | exact rf_n | exact rf_q _) ?_
  refine wf_get (k := 1) (l := 8) 1 dX2_copy_50 (by assumption) rfl q357 (Or.inl rfl) (Nat.le_of_ble_eq_true rfl) (Nat.le_of_ble_eq_true rfl) (by (repeat (first | exact updF_self _ _ _ _ | (apply updF_i; · decide) | (apply updF_a; · first | assumption | (apply Ne.symm; assumption) | omega) | (apply newF_a; · first | assumption | (apply Ne.symm; assumption) | omega) | exact newL_self (by rfl) | exact newF_self (by rfl) | (apply cpyF_a; · first | assumption | (apply Ne.symm; assumption) | omega))) <;> first | assumption | rfl) ?_
  refine wa_aloadV_n (pc := 53) (y := mX2_copy) dX2_copy_53 rfl (by first | exact rf_s _ | exact rf_n | exact rf_q _) ?_
  refine wf_get (k := 1) (l := 8) 1 dX2_copy_54 (by assumption) rfl q357 (Or.inl rfl) (Nat.le_of_ble_eq_true rfl) (Nat.le_of_ble_eq_true rfl) (by (repeat (first | exact updF_self _ _ _ _ | (apply updF_i; · decide) | (apply updF_a; · first | assumption | (apply Ne.symm; assumption) | omega) | (apply newF_a; · first | assumption | (apply Ne.symm; assumption) | omega) | exact newL_self (by rfl) | exact newF_self (by rfl) | (apply cpyF_a; · first | assumption | (apply Ne.symm; assumption) | omega))) <;> first | assumption | rfl) ?_
  refine wa_callW (k := 12) (pc := 57) (owner := "java/util/HashMap") (s_J4_putAll (d := d - 1) (by omega) hG MD0 f0 f1 f6 f7 f4 S.im S.tk (S.tk.le8 S.im) (by omega) hmm) dX2_copy_57 okJ4_putAll rfl q1224 q1225 (hDc_code q1228 q1229) (by decide) q1227 q1228 (sF_at (by assumption)) rfl rfl rfl rfl (Nat.le_of_ble_eq_true rfl) (Nat.le_of_ble_eq_true rfl) (by omega) ?_
  rintro _ _ - - ⟨h5, F5, nsD, kD, rfl, rfl, MD, tD, eD, MS, tS, eS, fr5, c5, fpD, fpS⟩
  refine aft_0 (pc2 := 60) ?_ rfl
  have hPK : ∀ b, KIL h2 b → ¬ (MFp F2 A2.im [] b ∨ MFp F2 A.im A.ns b) := fun b hk q => q.elim (fun q => hk.noM MD0 q) (fun q => hk.noM S.im q)
  have hlD : nsD.length = A.ns.length := by have := congrArg List.length eD; simpa [es] using this
  have S5 : ShowR G h5 F5 (fun b => O b ∨ (b = h2.1 ∧ h2.1 < h5.1)) s A f g := S.mapG (O2 := fun b => O b ∨ (b = h2.1 ∧ h2.1 < h5.1)) MS tS fr5 (fun b hb => hb.elim (fun q => Or.inr (fun q2 => by have h1 := hO _ (S.own _ q2); have h2 := hdm b q; omega)) (fun q => Or.inl q)) hPK (fun b hb => Or.inl hb) (fun b hb => (fpS b hb).imp (fun q => hsm b q) (fun q => ⟨q, q ▸ MFp.lt MS hb⟩)) (fun _ _ _ => rfl) S.ni S.ni2 (fun i e he => by rw [eS] at he; obtain ⟨x1, x2, x3⟩ := S.insE he; exact ⟨x1, x2, x3.fr fr5 hPK⟩)
  have D2 : ShowR G h2 F2 (fun b => h.1 ≤ b ∧ b < h2.1) s2 A2 (fK f (u (f 0))) (fun _ => 0) := D.mono fun b hb q => ⟨q, hb⟩
  have D5 : ShowR G h5 F5 (fun b => h.1 ≤ b ∧ ¬ (b = h2.1 ∧ h2.1 < h5.1)) s2 (A2.wm nsD kD) (fM f (u (f 0))) (fun _ => 0) := D2.mapG (O2 := fun b => h.1 ≤ b ∧ ¬ (b = h2.1 ∧ h2.1 < h5.1)) MD tD fr5 (fun b hb => hb.elim (fun q => Or.inl (by rw [hns]; exact q)) (fun q => Or.inr (fun q2 => by have h1 := hO _ (hsm b q); have h2 := D2.own b q2; omega))) hPK (fun b hb => ⟨hb.1, by omega⟩) (fun b hb => (fpD b hb).elim (fun q => ⟨(hdm b q).1, by have := (hdm b q).2; omega⟩) (fun q => ⟨by have := fr.1.1; omega, by omega⟩)) (fun j h1 h2 => by unfold fM; rw [if_neg h2, if_neg (by omega)]) (by unfold fM; rw [if_pos rfl, hlD]; exact hni) (by omega) (fun i e he => by
    rw [eD] at he
    obtain ⟨x1, x2, x3⟩ := S.insE he
    have hj : ∀ r, r < 4 → fM f (u (f 0)) (162 + 4 * i + r) = f (162 + 4 * i + r) := fun r hr => by unfold fM; rw [if_neg (by omega), if_pos (by omega)]
    have h0 : fM f (u (f 0)) (162 + 4 * i) = f (162 + 4 * i) := hj 0 (by decide)
    unfold InsE
    rw [h0, hj 1 (by decide), hj 2 (by decide), hj 3 (by decide)]
    exact ⟨x1, x2, x3.fr fr5 hPK⟩)
  have fr6 : Fr (OP O h) h F h5 F5 := (fr.op (P := OP O h)).trans fr5 (fun b hb q => q.elim (fun q => by have := (hdm b q).1; omega) (fun q => ⟨hsm b q, fun hk => hPK b (hk.ext fr.1) (Or.inr q)⟩))
  have S5_is := S5.is; have S5_0 := S5.f0; have S5_1 := S5.f1; have S5_2 := S5.f2; have S5_3 := S5.f3; have S5_4 := S5.f4; have S5_5 := S5.f5; have S5_6 := S5.f6; have S5_7 := S5.f7; have S5_h := S5.hm; have S5_c := S5.cl.1; have S5_l := S5.fl.1; have S5_m := S5.im.1
  have D5_is := D5.is; have D5_0 := D5.f0; have D5_1 := D5.f1; have D5_2 := D5.f2; have D5_3 := D5.f3; have D5_4 := D5.f4; have D5_5 := D5.f5; have D5_6 := D5.f6; have D5_7 := D5.f7; have D5_h := D5.hm; have D5_c := D5.cl.1; have D5_l := D5.fl.1; have D5_m := D5.im.1
  have hhm : A.hm ≠ A2.hm := fun e => by have h1 := S5.own A.hm (Or.inr (Or.inl rfl)); have h2 := D5.own A2.hm (Or.inr (Or.inl rfl)); rw [e] at h1; rcases h1 with h1 | h1; have := hO _ h1; omega; exact h2.2 h1
  refine wa_aloadV_n (pc := 60) (y := mX2_copy) dX2_copy_60 rfl (by first | exact rf_s _ | exact rf_n | exact rf_q _) ?_
  refine wf_get (k := 1) (l := 8) 2 dX2_copy_61 (by assumption) rfl q359 (Or.inl rfl) (Nat.le_of_ble_eq_true rfl) (Nat.le_of_ble_eq_true rfl) (by (repeat (first | exact updF_self _ _ _ _ | (apply updF_i; · decide) | (apply updF_a; · first | assumption | (apply Ne.symm; assumption) | omega) | (apply newF_a; · first | assumption | (apply Ne.symm; assumption) | omega) | exact newL_self (by rfl) | exact newF_self (by rfl) | (apply cpyF_a; · first | assumption | (apply Ne.symm; assumption) | omega))) <;> first | assumption | rfl) ?_
  refine wa_iconst (pc := 64) (y := mX2_copy) (Int32.ofNat 0) dX2_copy_64 rfl ?_
  refine wa_aloadV_n (pc := 65) (y := mX2_copy) dX2_copy_65 rfl (by first | exact rf_s _ | exact rf_n | exact rf_q _) ?_
  refine wf_get (k := 1) (l := 8) 2 dX2_copy_66 (by assumption) rfl q359 (Or.inl rfl) (Nat.le_of_ble_eq_true rfl) (Nat.le_of_ble_eq_true rfl) (by (repeat (first | exact updF_self _ _ _ _ | (apply updF_i; · decide) | (apply updF_a; · first | assumption | (apply Ne.symm; assumption) | omega) | (apply newF_a; · first | assumption | (apply Ne.symm; assumption) | omega) | exact newL_self (by rfl) | exact newF_self (by rfl) | (apply cpyF_a; · first | assumption | (apply Ne.symm; assumption) | omega))) <;> first | assumption | rfl) ?_
  refine wa_iconst (pc := 69) (y := mX2_copy) (Int32.ofNat 0) dX2_copy_69 rfl ?_
  refine wa_bipush (pc := 70) (y := mX2_copy) (Int32.ofNat 12) dX2_copy_70 rfl ?_
  refine wf_copy (k := 32) (pc := 72) (y := mX2_copy) dX2_copy_72 q1667 q352 q351 q96 (by assumption) (by assumption) (by omega) (fun i hi => Or.inl ⟨rfl, _, by rw [Nat.zero_add]; exact S5.hv i hi⟩) (Or.inl rfl) (Nat.le_of_ble_eq_true rfl) (by omega) ?_
  have frh : Fr (· = A2.hm) h5 F5 h5 (cpyF F5 A.hm A2.hm 0 0 12) := Fr.cpyT Fr.refl (Or.inl rfl)
  have D6 : ShowR G h5 (cpyF F5 A.hm A2.hm 0 0 12) (fun b => h.1 ≤ b ∧ ¬ (b = h2.1 ∧ h2.1 < h5.1)) s2 (A2.wm nsD kD) (fH f (u (f 0))) (fun _ => 0) := D5.homesG frh (fun c hc => by unfold fH; rw [if_pos (by omega)]; exact cpyF_in (by omega) (by rw [Nat.zero_add, Nat.sub_zero]; exact S5.hv c hc)) (fun j hj => if_neg (by omega))
  have S6 := S5.fr frh (fun b hb e => by subst e; have h1 := S5.own _ hb; have h2 := D5.own A2.hm (Or.inr (Or.inl rfl)); rcases h1 with h1 | h1; have := hO _ h1; omega; exact h2.2 h1) (fun b hk e => by subst e; rcases hk with e | e | e <;> exact absurd rfl (e.ne D5_h (by decide)))
  refine wa_iconst (pc := 75) (y := mX2_copy) (Int32.ofNat 0) dX2_copy_75 rfl ?_
  refine wa_istore_n (pc := 76) (y := mX2_copy) dX2_copy_76 (Nat.le_of_ble_eq_true rfl) (by first | rfl | (simp [okst, rf_cat] <;> assumption)) ?_
  change WA _ _ _ _ (List.set _ 2 _) _ _ _
  simp only [List.set_cons_zero, List.set_cons_succ]
  refine cp_77 (h := h) (V := fun b => b = h2.1 ∧ h2.1 < h5.1) (by omega) 12 0 h5 _ (A2.wm nsD kD) rfl (fr6.trans frh (fun b hb e => by subst e; have h2 := D5.own A2.hm (Or.inr (Or.inl rfl)); omega)) ⟨by have := cst.1; omega, by have := cst.2; omega⟩ (fun b q => ⟨by have := fr.1.1; omega, by omega⟩) hO S6 (D6.cg (fun _ _ => rfl) (fun _ _ _ => rfl) (fun j hj => by unfold gK; rw [if_neg (by omega)]))
/-- the cues -/
theorem cp_10 (hd : 15 ≤ d) (hG : StG G) (hO : ∀ b, O b → b < h.1) : ∀ (t k : Nat) (h2 : AH) (F2 : Nat → Nat → Value) (A2 : SA), k + t = u (f 0) → Fr NoP h F h2 F2 → Cst (700 + 54 * k) h h2 → ShowR G h2 F2 O s A f g → ShowR G h2 F2 (fun b => h.1 ≤ b) s2 A2 (fK f k) (fun _ => 0) → A2.ns = [] → MNew F2 A2.im →
    WA G d mX2_copy 10 [.ref s, .ref s2, .int (Int32.ofNat k)] [] (sF h2 F2) (CpyQ G O s A f g h F) := by
  intro t
  induction t with
  | zero =>
    intro k h2 F2 A2 hk fr cst S D hns hm
    have hk : k = u (f 0) := by omega
    subst hk
    have hn := S.nlt
    have hnc := S.nc
    have S_is := S.is; have S_0 := S.f0; have S_1 := S.f1; have S_2 := S.f2; have S_3 := S.f3; have S_4 := S.f4; have S_5 := S.f5; have S_6 := S.f6; have S_7 := S.f7; have S_h := S.hm; have S_c := S.cl.1; have S_l := S.fl.1; have S_m := S.im.1
    refine wa_iload_n (pc := 10) (y := mX2_copy) dX2_copy_10 rfl ?_
    refine wa_aloadV_n (pc := 11) (y := mX2_copy) dX2_copy_11 rfl (by first | exact rf_s _ | exact rf_n | exact rf_q _) ?_
    refine wf_get (k := 1) (l := 8) 0 dX2_copy_12 (by assumption) rfl q355 (Or.inl rfl) (Nat.le_of_ble_eq_true rfl) (Nat.le_of_ble_eq_true rfl) (by (repeat (first | exact updF_self _ _ _ _ | (apply updF_i; · decide) | (apply updF_a; · first | assumption | (apply Ne.symm; assumption) | omega) | (apply newF_a; · first | assumption | (apply Ne.symm; assumption) | omega) | exact newL_self (by rfl) | exact newF_self (by rfl) | (apply cpyF_a; · first | assumption | (apply Ne.symm; assumption) | omega))) <;> first | assumption | rfl) ?_
    refine wa_callV (pc := 15) (s_J2_size (d := d - 1) S.cl) dX2_copy_15 okJ2_size q1181 q1145 q1146 (sF_at (by assumption)) rfl rfl rfl (Nat.le_of_ble_eq_true rfl) (Nat.le_of_ble_eq_true rfl) (by omega) ?_
    rintro _ _ - - ⟨rfl, rfl⟩
    refine aft_v (pc2 := 18) ?_ rfl
    refine wa_icmp_ge (pc := 18) 49 dX2_copy_18 rfl (fun hb18 => ?_) (fun hb18 => absurd ((iN_le (by omega) (by omega)).mpr (by omega)) hb18)
    exact cp_49 hd hG fr (cst.mono (by omega)) hO S D hns hm
  | succ t ih =>
    intro k h2 F2 A2 hk fr cst S D hns hm
    have hn := S.nlt
    have hnc := S.nc
    have S_is := S.is; have S_0 := S.f0; have S_1 := S.f1; have S_2 := S.f2; have S_3 := S.f3; have S_4 := S.f4; have S_5 := S.f5; have S_6 := S.f6; have S_7 := S.f7; have S_h := S.hm; have S_c := S.cl.1; have S_l := S.fl.1; have S_m := S.im.1
    have D_is := D.is; have D_0 := D.f0; have D_1 := D.f1; have D_2 := D.f2; have D_3 := D.f3; have D_4 := D.f4; have D_5 := D.f5; have D_6 := D.f6; have D_7 := D.f7; have D_h := D.hm; have D_c := D.cl.1; have D_l := D.fl.1; have D_m := D.im.1
    obtain ⟨a, ha⟩ := S.cu (k := k) (by omega)
    have C := S.cue k a ha
    have c1 := C.1
    have hk0 : u (fK f k 0) = k := by unfold fK; rw [if_pos rfl]; exact u_of (by omega)
    have hcs : A2.cs.length = k := by rw [← D.nc]; exact hk0
    have rowk : ∀ k2 r, k2 < k + 1 → r < 12 → fK f (k + 1) (18 + 12 * k2 + r) = f (18 + 12 * k2 + r) := fun k2 r h1 h2 => by unfold fK; rw [if_neg (by omega), if_pos (by omega)]
    refine wa_iload_n (pc := 10) (y := mX2_copy) dX2_copy_10 rfl ?_
    refine wa_aloadV_n (pc := 11) (y := mX2_copy) dX2_copy_11 rfl (by first | exact rf_s _ | exact rf_n | exact rf_q _) ?_
    refine wf_get (k := 1) (l := 8) 0 dX2_copy_12 (by assumption) rfl q355 (Or.inl rfl) (Nat.le_of_ble_eq_true rfl) (Nat.le_of_ble_eq_true rfl) (by (repeat (first | exact updF_self _ _ _ _ | (apply updF_i; · decide) | (apply updF_a; · first | assumption | (apply Ne.symm; assumption) | omega) | (apply newF_a; · first | assumption | (apply Ne.symm; assumption) | omega) | exact newL_self (by rfl) | exact newF_self (by rfl) | (apply cpyF_a; · first | assumption | (apply Ne.symm; assumption) | omega))) <;> first | assumption | rfl) ?_
    refine wa_callV (pc := 15) (s_J2_size (d := d - 1) S.cl) dX2_copy_15 okJ2_size q1181 q1145 q1146 (sF_at (by assumption)) rfl rfl rfl (Nat.le_of_ble_eq_true rfl) (Nat.le_of_ble_eq_true rfl) (by omega) ?_
    rintro _ _ - - ⟨rfl, rfl⟩
    refine aft_v (pc2 := 18) ?_ rfl
    refine wa_icmp_ge (pc := 18) 49 dX2_copy_18 rfl (fun hb18 => absurd ((iN_le (by omega) (by omega)).mp hb18) (by omega)) (fun hb18 => ?_)
    refine wa_aloadV_n (pc := 21) (y := mX2_copy) dX2_copy_21 rfl (by first | exact rf_s _ | exact rf_n | exact rf_q _) ?_
    refine wf_get (k := 1) (l := 8) 0 dX2_copy_22 (by assumption) rfl q355 (Or.inl rfl) (Nat.le_of_ble_eq_true rfl) (Nat.le_of_ble_eq_true rfl) (by (repeat (first | exact updF_self _ _ _ _ | (apply updF_i; · decide) | (apply updF_a; · first | assumption | (apply Ne.symm; assumption) | omega) | (apply newF_a; · first | assumption | (apply Ne.symm; assumption) | omega) | exact newL_self (by rfl) | exact newF_self (by rfl) | (apply cpyF_a; · first | assumption | (apply Ne.symm; assumption) | omega))) <;> first | assumption | rfl) ?_
    refine wa_aloadV_n (pc := 25) (y := mX2_copy) dX2_copy_25 rfl (by first | exact rf_s _ | exact rf_n | exact rf_q _) ?_
    refine wf_get (k := 1) (l := 8) 0 dX2_copy_26 (by assumption) rfl q355 (Or.inl rfl) (Nat.le_of_ble_eq_true rfl) (Nat.le_of_ble_eq_true rfl) (by (repeat (first | exact updF_self _ _ _ _ | (apply updF_i; · decide) | (apply updF_a; · first | assumption | (apply Ne.symm; assumption) | omega) | (apply newF_a; · first | assumption | (apply Ne.symm; assumption) | omega) | exact newL_self (by rfl) | exact newF_self (by rfl) | (apply cpyF_a; · first | assumption | (apply Ne.symm; assumption) | omega))) <;> first | assumption | rfl) ?_
    refine wa_iload_n (pc := 29) (y := mX2_copy) dX2_copy_29 rfl ?_
    refine wa_callV (pc := 30) (s_J2_get (d := d - 1) (by omega) S.cl ha) dX2_copy_30 okJ2_get q416 q417 q418 (sF_at (by assumption)) rfl rfl rfl (Nat.le_of_ble_eq_true rfl) (Nat.le_of_ble_eq_true rfl) (by omega) ?_
    rintro _ _ - - ⟨rfl, rfl⟩
    refine aft_v (pc2 := 33) ?_ rfl
    refine wa_castS (pc := 33) (y := mX2_copy) (k := 6) dX2_copy_33 (sF_at (by assumption)) rfl q430 ?_
    refine wa_callV (pc := 36) (s_X7_copy (d := d - 1) (by omega) C) dX2_copy_36 okX7_copy q1182 q1183 q1184 (sF_at (by assumption)) rfl rfl rfl (Nat.le_of_ble_eq_true rfl) (Nat.le_of_ble_eq_true rfl) (by omega) ?_
    rintro _ _ - - ⟨h3, F3, rfl, rfl, fr3, cst3, C3⟩
    refine aft_v (pc2 := 39) ?_ rfl
    have S3 := S.rd fr3; have D3 := D.rd fr3
    have S3_is := S3.is; have S3_0 := S3.f0; have S3_1 := S3.f1; have S3_2 := S3.f2; have S3_3 := S3.f3; have S3_4 := S3.f4; have S3_5 := S3.f5; have S3_6 := S3.f6; have S3_7 := S3.f7; have S3_h := S3.hm; have S3_c := S3.cl.1; have S3_l := S3.fl.1; have S3_m := S3.im.1
    have D3_is := D3.is; have D3_0 := D3.f0; have D3_1 := D3.f1; have D3_2 := D3.f2; have D3_3 := D3.f3; have D3_4 := D3.f4; have D3_5 := D3.f5; have D3_6 := D3.f6; have D3_7 := D3.f7; have D3_h := D3.hm; have D3_c := D3.cl.1; have D3_l := D3.fl.1; have D3_m := D3.im.1
    have c3 := C3.1
    refine wa_callV (pc := 39) (s_J2_add (d := d - 1) (by omega) hG D3.cl (by omega) ⟨6, 6, c3, Or.inr (Or.inr (Or.inl rfl))⟩) dX2_copy_39 okJ2_add q272 q273 q274 (sF_at (by assumption)) rfl rfl rfl (Nat.le_of_ble_eq_true rfl) (Nat.le_of_ble_eq_true rfl) (by omega) ?_
    rintro _ _ - - ⟨rfl, h4, F4, ca4, cc4, rfl, L4, fr4, har, b1, b2⟩
    refine aft_v (pc2 := 42) ?_ rfl
    refine wa_pop (pc := 42) (y := mX2_copy) dX2_copy_42 (by first | rfl | exact rf_cat _) ?_
    refine wa_iincN (pc := 43) (y := mX2_copy) dX2_copy_43 rfl (Nat.le_of_ble_eq_true rfl) (by first | rfl | (simp [okst, rf_cat] <;> assumption)) ?_
    simp only [List.set_cons_zero, List.set_cons_succ]
    refine wa_goto (pc := 46) (y := mX2_copy) 10 dX2_copy_46 rfl ?_
    have hDS : ∀ b, SFp h3 F3 A s b → ¬ LF h3 A2.cl A2.ca b := fun b hb q => by have h1 := hO b (S3.own b hb); have h2 := D3.own b (Or.inr (Or.inr (Or.inl q))); omega
    have S4 := S3.fr fr4 hDS (fun b hk q => by rcases q with e | ⟨e, z, hz⟩ <;> (rcases hk with e2 | e2 | e2) <;> first | exact absurd e (e2.ne D3_c (by decide)) | exact absurd e (e2.ne hz (by decide)))
    have hsf : ∀ b, SFp h3 F3 A2 s2 b → b < h2.1 := fun b hb => by rcases hb with hb | hb | hb | hb | hb | hb | ⟨x, hx, hb⟩; exact hb ▸ D_is.lt; exact hb ▸ D_h.lt; exact (LF.back D.cl fr3.1 hb).elim (fun e => e ▸ D.cl.lt.1) (fun e => e.1 ▸ D.cl.lt.2); exact (LF.back D.fl fr3.1 hb).elim (fun e => e ▸ D.fl.lt.1) (fun e => e.1 ▸ D.fl.lt.2); exact MFp.lt D.im (((D.im.fr fr3 (fun _ _ q => q) (fun _ _ q => q)).2.2.2.1 b).mp hb); (obtain ⟨c9, hc9⟩ := List.mem_iff_getElem?.mp hb; exact (D.fad c9 _ hc9).1.lt); (obtain ⟨k9, hk9⟩ := List.mem_iff_getElem?.mp hx; have C9 := D.cue k9 _ hk9; rcases hb with rfl | rfl | rfl; exact C9.1.lt; exact C9.2.2.2.2.2.2.2.2.1.lt; exact C9.2.2.2.2.2.2.2.2.2.1.lt)
    have D4 := D3.appC (f2 := fK f (k + 1)) (O2 := fun b => h.1 ≤ b) (a := h2.1) (dla := h2.1 + 1) (tma := h2.1 + 2) (by omega) (by rw [hk0]; exact C3.cg fun r hr => rowk k r (by omega) hr) (fun b hb => by have := hsf b hb; omega) (by omega) L4 fr4 har (fun j hj => by unfold fK; rw [if_neg (by omega), if_neg (by omega), if_neg (by omega), if_neg (by omega)]) (fun j h1 h2 => by rw [hk0] at h2; unfold fK; rw [if_neg (by omega), if_pos (by omega), if_neg (by omega), if_pos (by omega)]) (by rw [hk0]; unfold fK; rw [if_pos rfl]; exact u_of (by omega)) (fun b hb => hb) (fun b hb => by have := fr.1.1; have := fr3.1.1; omega) (by have := fr.1.1; omega)
    have hmx : ∀ j, F4 A2.im j = F2 A2.im j := fun j => (fr4.at D3_m.lt (fun q => by rcases q with e | ⟨e, z, hz⟩; exact absurd e (D3_m.ne D3_c (by decide)); exact absurd e (D3_m.ne hz (by decide))) j).trans (fr3.at D_m.lt (fun q => q) j)
    exact ih (k + 1) h4 F4 _ (by omega) ((fr.trans fr3 (fun _ _ q => q)).trans fr4 (fun b hb q => by have h2 := D3.own b (Or.inr (Or.inr (Or.inl q))); omega)) ⟨by have := cst.1; have := cst3.1; omega, by have := cst.2; have := cst3.2; omega⟩ S4 D4 hns ⟨(hmx 0).trans hm.1, (hmx 1).trans hm.2.1, (hmx 6).trans hm.2.2.1, (hmx 7).trans hm.2.2.2.1, (hmx 4).trans hm.2.2.2.2⟩
theorem s_X2_copy (hd : 15 ≤ d) (hG : StG G) (hE : Is h (emA G) 43 0) (hO : ∀ b, O b → b < h.1) (S : ShowR G h F O s A f g) : MA G d mX2_copy [.ref s] (sF h F) (CpyQ G O s A f g h F) := by
  have S_is := S.is
  have hns : s ≠ h.1 := Nat.ne_of_lt S_is.lt
  have s1 := S_is.new (k2 := 1) (l2 := 8)
  change WA G d mX2_copy 0 [.ref s, .retAddr 0, .retAddr 0] [] _ _
  refine wf_new (k := 1) (l := 8) [.null, .null, .null, .null, .int 0, .int 0, .int 0, .int 0] tyX2 dX2_copy_0 rfl q1179 q154 q85 tyX2_ok rfl rfl ?_
  refine wa_dup (pc := 3) (y := mX2_copy) dX2_copy_3 (by first | rfl | exact rf_cat _) ?_
  refine wa_callI (pc := 4) (s_X2_init (d := d - 1) (s := h.1) (by omega) hG (Is.self (h := h)) (fun j h1 h2 => newF_self (by rcases (show j = 4 ∨ j = 5 ∨ j = 6 ∨ j = 7 by omega) with rfl | rfl | rfl | rfl <;> rfl)) (hE.new (k2 := 1) (l2 := 8))) dX2_copy_4 okX2_init rfl rfl rfl q1180 q156 rfl rfl (Nat.le_of_ble_eq_true rfl) (Nat.le_of_ble_eq_true rfl) (by omega) ?_
  rintro _ _ - - ⟨rfl, h3, F3, cl, im, hm, fl, fa, fc, fs, rfl, I, hl, fr3, cst3⟩
  refine aft_0 (pc2 := 7) ?_ rfl
  have fr : Fr NoP h F h3 F3 := (Fr.newT Fr.refl).trans fr3 (fun b hb e => absurd e (by omega))
  have S3 := S.rd fr
  have D := I.show hl
  have hm9 := I.2.2.2.2.2.2.1
  refine wa_astoreV_n (pc := 7) (y := mX2_copy) dX2_copy_7 (Nat.le_of_ble_eq_true rfl) (by first | rfl | (simp [okst, rf_cat] <;> assumption)) (by first | exact rf_s _ | exact rf_n | exact rf_q _) ?_
  change WA _ _ _ _ (List.set _ 1 _) _ _ _
  simp only [List.set_cons_zero, List.set_cons_succ]
  refine wa_iconst (pc := 8) (y := mX2_copy) (Int32.ofNat 0) dX2_copy_8 rfl ?_
  refine wa_istore_n (pc := 9) (y := mX2_copy) dX2_copy_9 (Nat.le_of_ble_eq_true rfl) (by first | rfl | (simp [okst, rf_cat] <;> assumption)) ?_
  change WA _ _ _ _ (List.set _ 2 _) _ _ _
  simp only [List.set_cons_zero, List.set_cons_succ]
  refine cp_10 (h := h) (F := F) hd hG hO (u (f 0)) 0 h3 F3 _ (by omega) fr ⟨by have := cst3.1; have e : (hNew h 1 8).1 = h.1 + 1 := rfl; omega, by have := cst3.2; have e : (hNew h 1 8).2.1 = h.2.1 + 8 := rfl; omega⟩ S3 ((D.mono (O2 := fun b => h.1 ≤ b) fun b _ q => q.elim (fun e => by omega) (fun e => Nat.le_of_succ_le e)).cg (fun j hj => ?_) (fun j h1 h2 => absurd h2 (by show ¬ j < 162 + 4 * u 0; have : u 0 = 0 := (by decide); omega)) (fun j hj => rfl)) rfl hm9
  unfold fK; by_cases e : j = 0; rw [if_pos e]; rfl; rw [if_neg e, if_neg (by omega)]
end SHCOPY3
