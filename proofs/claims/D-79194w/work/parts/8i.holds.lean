/-! ===== levels, holds ===== -/
def LvsQ (h : AH) (F : Nat → Nat → Value) (f : Nat → Int32) (c : Nat) (r : RR) (h' : AH) : Prop := ∃ (h2 : AH) (F2 : Nat → Nat → Value), r = .inl (some (.ref h.1)) ∧ h' = sF h2 F2 ∧ Fr NoP h F h2 F2 ∧ Cst 150 h h2 ∧ Is h2 h.1 32 12 ∧ ∀ j, j < 12 → F2 h.1 j = .int (if j < u (f 0) then lvN f c (j + 1) else 0)
def HldQ (G : GG) (h : AH) (F : Nat → Nat → Value) (O : Nat → Prop) (s : Nat) (A : SA) (f g : Nat → Int32) (k c : Nat) (had : Int32) (r : RR) (h' : AH) : Prop :=
  ∃ (h2 : AH) (F2 : Nat → Nat → Value) (ns : List Nat) (ks : Nat), r = .inl (some (.int (bI (hlB f k c had)))) ∧ h' = sF h2 F2 ∧ Fr (OP O h) h F h2 F2 ∧ Cst 1800 h h2 ∧ ShowR G h2 F2 (fun b => O b ∨ h.1 ≤ b) s (A.wm ns ks) (hlF f k c had) g
section HOLDS
variable {G : GG} {d n : Nat} {h h2 : AH} {F F2 : Nat → Nat → Value} {s c k i j p q a : Nat} {A : SA} {f g : Nat → Int32} {O P : Nat → Prop} {x z v had : Int32}
theorem ite_lt {l : Int32} (e : ¬ j = k) : (if j < k then l else 0) = if j < k + 1 then l else 0 := by
  by_cases e9 : j < k
  · rw [if_pos e9, if_pos (by omega)]
  · rw [if_neg e9, if_neg (by omega)]
theorem SA.wm_self (A : SA) : A.wm A.ns A.ks = A := rfl
theorem s_X2_levels (hd : 18 ≤ d) (S : ShowR G h F O s A f g) (hc : c < 12) : MA G d mX2_levels [.ref s, .int (Int32.ofNat c)] (sF h F) (LvsQ h F f c) := by
  have hn := S.nlt
  have hnc := S.nc
  have loop : ∀ (t k : Nat) (h2 : AH) (F2 : Nat → Nat → Value), k + t = u (f 0) → Fr NoP h F h2 F2 → Cst (3 + k * 12) h h2 → Is h2 h.1 32 12 → (∀ j, j < 12 → F2 h.1 j = .int (if j < k then lvN f c (j + 1) else 0)) →
      WA G d mX2_levels 7 [.ref s, .int (Int32.ofNat c), .ref h.1, .int (Int32.ofNat k)] [] (sF h2 F2) (LvsQ h F f c) := by
    intro t
    induction t with
    | zero =>
      intro k h2 F2 hk fr cst ib hv
      have S1 := S.rd fr
      have S1_is := S1.is; have S1_0 := S1.f0; have S1_1 := S1.f1; have S1_2 := S1.f2; have S1_3 := S1.f3; have S1_4 := S1.f4; have S1_5 := S1.f5; have S1_6 := S1.f6; have S1_7 := S1.f7; have S1_h := S1.hm; have S1_c := S1.cl.1; have S1_l := S1.fl.1; have S1_m := S1.im.1
      refine wa_iload_n (pc := 7) (y := mX2_levels) dX2_levels_7 rfl ?_
      refine wa_aloadV_n (pc := 8) (y := mX2_levels) dX2_levels_8 rfl (by first | exact rf_s _ | exact rf_n | exact rf_q _) ?_
      refine wf_get (k := 1) (l := 8) 0 dX2_levels_9 (by assumption) rfl q355 (Or.inl rfl) (Nat.le_of_ble_eq_true rfl) (Nat.le_of_ble_eq_true rfl) (by (repeat (first | exact updF_self _ _ _ _ | (apply updF_i; · decide) | (apply updF_a; · first | assumption | (apply Ne.symm; assumption) | omega) | (apply newF_a; · first | assumption | (apply Ne.symm; assumption) | omega) | exact newL_self (by rfl) | exact newF_self (by rfl) | (apply cpyF_a; · first | assumption | (apply Ne.symm; assumption) | omega))) <;> first | assumption | rfl) ?_
      refine wa_callV (pc := 12) (s_J2_size (d := d - 1) S1.cl) dX2_levels_12 okJ2_size q1181 q1145 q1146 (sF_at (by assumption)) rfl rfl rfl (Nat.le_of_ble_eq_true rfl) (Nat.le_of_ble_eq_true rfl) (by omega) ?_
      rintro _ _ - - ⟨rfl, rfl⟩
      refine aft_v (pc2 := 15) ?_ rfl
      refine wa_icmp_ge (pc := 15) 33 dX2_levels_15 rfl (fun hb15 => ?_) (fun hb15 => absurd ((iN_le (by omega) (by omega)).mpr (by omega)) hb15)
      refine wa_aloadV_n (pc := 33) (y := mX2_levels) dX2_levels_33 rfl (by first | exact rf_s _ | exact rf_n | exact rf_q _) ?_
      refine wa_areturnV (pc := 34) (y := mX2_levels) (.array .int) dX2_levels_34 rfl (Or.inr ⟨_, rfl⟩) (by first | exact rf_s _ | exact rf_n | exact rf_q _) ⟨h2, F2, rfl, rfl, fr, cst.mono (by omega), ib, fun j hj => by rw [hv j hj, show u (f 0) = k by omega]⟩
    | succ t ih =>
      intro k h2 F2 hk fr cst ib hv
      have S1 := S.rd fr
      have S1_is := S1.is; have S1_0 := S1.f0; have S1_1 := S1.f1; have S1_2 := S1.f2; have S1_3 := S1.f3; have S1_4 := S1.f4; have S1_5 := S1.f5; have S1_6 := S1.f6; have S1_7 := S1.f7; have S1_h := S1.hm; have S1_c := S1.cl.1; have S1_l := S1.fl.1; have S1_m := S1.im.1
      refine wa_iload_n (pc := 7) (y := mX2_levels) dX2_levels_7 rfl ?_
      refine wa_aloadV_n (pc := 8) (y := mX2_levels) dX2_levels_8 rfl (by first | exact rf_s _ | exact rf_n | exact rf_q _) ?_
      refine wf_get (k := 1) (l := 8) 0 dX2_levels_9 (by assumption) rfl q355 (Or.inl rfl) (Nat.le_of_ble_eq_true rfl) (Nat.le_of_ble_eq_true rfl) (by (repeat (first | exact updF_self _ _ _ _ | (apply updF_i; · decide) | (apply updF_a; · first | assumption | (apply Ne.symm; assumption) | omega) | (apply newF_a; · first | assumption | (apply Ne.symm; assumption) | omega) | exact newL_self (by rfl) | exact newF_self (by rfl) | (apply cpyF_a; · first | assumption | (apply Ne.symm; assumption) | omega))) <;> first | assumption | rfl) ?_
      refine wa_callV (pc := 12) (s_J2_size (d := d - 1) S1.cl) dX2_levels_12 okJ2_size q1181 q1145 q1146 (sF_at (by assumption)) rfl rfl rfl (Nat.le_of_ble_eq_true rfl) (Nat.le_of_ble_eq_true rfl) (by omega) ?_
      rintro _ _ - - ⟨rfl, rfl⟩
      refine aft_v (pc2 := 15) ?_ rfl
      refine wa_icmp_ge (pc := 15) 33 dX2_levels_15 rfl (fun hb15 => absurd ((iN_le (by omega) (by omega)).mp hb15) (by omega)) (fun hb15 => ?_)
      refine wa_aloadV_n (pc := 18) (y := mX2_levels) dX2_levels_18 rfl (by first | exact rf_s _ | exact rf_n | exact rf_q _) ?_
      refine wa_iload_n (pc := 19) (y := mX2_levels) dX2_levels_19 rfl ?_
      refine wa_aloadV_n (pc := 20) (y := mX2_levels) dX2_levels_20 rfl (by first | exact rf_s _ | exact rf_n | exact rf_q _) ?_
      refine wa_iload_n (pc := 21) (y := mX2_levels) dX2_levels_21 rfl ?_
      refine wa_iload_n (pc := 22) (y := mX2_levels) dX2_levels_22 rfl ?_
      refine wa_callV (pc := 23) (s_X2_level (d := d - 1) (k := k) (by omega) S1 (by omega) hc) dX2_levels_23 okX2_level q1103 q407 q408 (sF_at (by assumption)) rfl rfl rfl (Nat.le_of_ble_eq_true rfl) (Nat.le_of_ble_eq_true rfl) (by omega) ?_
      rintro _ _ - - ⟨h3, F3, rfl, rfl, fr3, cst3⟩
      refine aft_v (pc2 := 26) ?_ rfl
      have ib3 := fr3.is ib
      refine wf_iastore dX2_levels_26 (by assumption) (by omega) ?_
      refine wa_iincN (pc := 27) (y := mX2_levels) dX2_levels_27 rfl (Nat.le_of_ble_eq_true rfl) (by first | rfl | (simp [okst, rf_cat] <;> assumption)) ?_
      simp only [List.set_cons_zero, List.set_cons_succ]
      refine wa_goto (pc := 30) (y := mX2_levels) 7 dX2_levels_30 rfl ?_
      exact ih (k + 1) h3 _ (by omega) ((fr.trans fr3 fun _ _ q => q).updT (Or.inr (Nat.le_refl _))) ((cst.trans cst3).mono (by omega)) ib3 (fun j hj => by
        by_cases e : j = k
        · subst e; rw [if_pos (by omega)]; exact updF_self _ _ _ _
        · rw [updF_i e ((fr3.at ib.lt (fun q => q) j).trans (hv j hj))]; exact congrArg Value.int (ite_lt e))
  have i9 : Is (hNew h 32 12) h.1 32 12 := Is.self
  change WA G d mX2_levels 0 [.ref s, .int (Int32.ofNat c), .retAddr 0, .retAddr 0] [] _ _
  refine wa_bipush (pc := 0) (y := mX2_levels) (Int32.ofNat 12) dX2_levels_0 rfl ?_
  refine wf_newarray 32 dX2_levels_2 (by decide) (Or.inl ⟨rfl, rfl⟩) q271 ?_
  refine wa_astoreV_n (pc := 4) (y := mX2_levels) dX2_levels_4 (Nat.le_of_ble_eq_true rfl) (by first | rfl | (simp [okst, rf_cat] <;> assumption)) (by first | exact rf_s _ | exact rf_n | exact rf_q _) ?_
  change WA _ _ _ _ (List.set _ 2 _) _ _ _
  simp only [List.set_cons_zero, List.set_cons_succ]
  refine wa_iconst (pc := 5) (y := mX2_levels) (Int32.ofNat 0) dX2_levels_5 rfl ?_
  refine wa_istore_n (pc := 6) (y := mX2_levels) dX2_levels_6 (Nat.le_of_ble_eq_true rfl) (by first | rfl | (simp [okst, rf_cat] <;> assumption)) ?_
  change WA _ _ _ _ (List.set _ 3 _) _ _ _
  simp only [List.set_cons_zero, List.set_cons_succ]
  exact loop (u (f 0)) 0 _ _ (by omega) (Fr.newT Fr.refl) ⟨by show h.1 + 1 ≤ h.1 + 3; omega, by show h.2.1 + 12 ≤ h.2.1 + 4 * 3; omega⟩ i9 (fun j hj => by rw [if_neg (by omega)]; exact newF_self rfl)
/-- an instruction is put where there is none -/
theorem ShowR.putN {x vv k2 cc ss : Nat} {ns2 : List Nat} {lev part : Int32} {r : RR} (S : ShowR G h F O s A f g) (hc : c < 12) (hn : n < 100) (hg : gv f (Int32.ofNat n) (Int32.ofNat c) = none) (h75 : A.ns.length < 75) (T : TldR h F vv lev part) {h' : AH} (Q : PtQ A.im h F A.ns A.ks (12 * n + c) vv r h') :
    ∃ (h2 : AH) (F2 : Nat → Nat → Value) (ns ks : _) (w : Value), r = .inl (some w) ∧ w.category = 1 ∧ h' = sF h2 F2 ∧ Fr (OP O h) h F h2 F2 ∧ Cst 1740 h h2 ∧ ShowR G h2 F2 (fun b => O b ∨ h.1 ≤ b) s (A.wm ns ks) (giF f (Int32.ofNat n) (Int32.ofNat c) lev part) g := by
  obtain ⟨h2, F2, ns2, k2, rfl, M2, t2, st, hcase⟩ := Q
  rcases hcase with ⟨v0, m0, -, -⟩ | ⟨m0, rfl, e2⟩
  · obtain ⟨i, hi⟩ := List.mem_iff_getElem?.mp m0
    rw [S.gv_e hc hn rfl hi] at hg
    cases hg
  · exact ⟨h2, F2, ns2, k2, .null, rfl, rfl, rfl, S.mfr st.1, (ShowR.mcst (n := 60) st (by omega) (by omega)).mono (by omega), S.put2 hc hn rfl h75 M2 t2 st T m0 e2⟩
theorem s_X2_holds (hd : 19 ≤ d) (hG : StG G) (S : ShowR G h F O s A f g) (hc : c < 12) (hk : k ≤ 12) (hh : had ≠ -1) (h75 : u (f 1) < 75) : MA G d mX2_holds [.ref s, .int (Int32.ofNat k), .int (Int32.ofNat c), .int had] (sF h F) (HldQ G h F O s A f g k c had) := by
  have S_is := S.is; have S_0 := S.f0; have S_1 := S.f1; have S_2 := S.f2; have S_3 := S.f3; have S_4 := S.f4; have S_5 := S.f5; have S_6 := S.f6; have S_7 := S.f7; have S_h := S.hm; have S_c := S.cl.1; have S_l := S.fl.1; have S_m := S.im.1
  have hn := S.nlt
  have hnc := S.nc
  have no : hlB f k c had = false → ∀ (h2 : AH) (F2 : Nat → Nat → Value), Fr NoP h F h2 F2 → Cst 30 h h2 → HldQ G h F O s A f g k c had (.inl (some (.int (Int32.ofNat 0)))) (sF h2 F2) := fun hb h2 F2 fr cst => by
    have hF : hlF f k c had = f := by unfold hlF; rw [if_neg (by rw [hb]; decide)]
    exact ⟨h2, F2, A.ns, A.ks, by rw [hb]; rfl, rfl, fr.op, cst.mono (by omega), by rw [hF]; exact (S.rd fr).mono fun b _ hb => Or.inl hb⟩
  change WA G d mX2_holds 0 [.ref s, .int (Int32.ofNat k), .int (Int32.ofNat c), .int had] [] _ _
  by_cases hk2 : k < u (f 0)
  · obtain ⟨a, ha⟩ := S.cu hk2
    obtain ⟨m, m1, m2, hm⟩ := S.num ha
    have C := S.cue k a ha
    have c1 := C.1
    have c2 := C.2.2.2.1
    have c3 := C.2.2.2.2.2.2.2.2.2.2.2.1
    refine wa_iload_n (pc := 0) (y := mX2_holds) dX2_holds_0 rfl ?_
    refine wa_aloadV_n (pc := 1) (y := mX2_holds) dX2_holds_1 rfl (by first | exact rf_s _ | exact rf_n | exact rf_q _) ?_
    refine wf_get (k := 1) (l := 8) 0 dX2_holds_2 (by assumption) rfl q355 (Or.inl rfl) (Nat.le_of_ble_eq_true rfl) (Nat.le_of_ble_eq_true rfl) (by (repeat (first | exact updF_self _ _ _ _ | (apply updF_i; · decide) | (apply updF_a; · first | assumption | (apply Ne.symm; assumption) | omega) | (apply newF_a; · first | assumption | (apply Ne.symm; assumption) | omega) | exact newL_self (by rfl) | exact newF_self (by rfl) | (apply cpyF_a; · first | assumption | (apply Ne.symm; assumption) | omega))) <;> first | assumption | rfl) ?_
    refine wa_callV (pc := 5) (s_J2_size (d := d - 1) S.cl) dX2_holds_5 okJ2_size q1181 q1145 q1146 (sF_at (by assumption)) rfl rfl rfl (Nat.le_of_ble_eq_true rfl) (Nat.le_of_ble_eq_true rfl) (by omega) ?_
    rintro _ _ - - ⟨rfl, rfl⟩
    refine aft_v (pc2 := 8) ?_ rfl
    refine wa_icmp_ge (pc := 8) 47 dX2_holds_8 rfl (fun hb8 => absurd ((iN_le (by omega) (by omega)).mp hb8) (by omega)) (fun hb8 => ?_)
    refine wa_aloadV_n (pc := 11) (y := mX2_holds) dX2_holds_11 rfl (by first | exact rf_s _ | exact rf_n | exact rf_q _) ?_
    refine wf_get (k := 1) (l := 8) 0 dX2_holds_12 (by assumption) rfl q355 (Or.inl rfl) (Nat.le_of_ble_eq_true rfl) (Nat.le_of_ble_eq_true rfl) (by (repeat (first | exact updF_self _ _ _ _ | (apply updF_i; · decide) | (apply updF_a; · first | assumption | (apply Ne.symm; assumption) | omega) | (apply newF_a; · first | assumption | (apply Ne.symm; assumption) | omega) | exact newL_self (by rfl) | exact newF_self (by rfl) | (apply cpyF_a; · first | assumption | (apply Ne.symm; assumption) | omega))) <;> first | assumption | rfl) ?_
    refine wa_iload_n (pc := 15) (y := mX2_holds) dX2_holds_15 rfl ?_
    refine wa_callV (pc := 16) (s_J2_get (d := d - 1) (by omega) S.cl ha) dX2_holds_16 okJ2_get q416 q417 q418 (sF_at (by assumption)) rfl rfl rfl (Nat.le_of_ble_eq_true rfl) (Nat.le_of_ble_eq_true rfl) (by omega) ?_
    rintro _ _ - - ⟨rfl, rfl⟩
    refine aft_v (pc2 := 19) ?_ rfl
    refine wa_castS (pc := 19) (y := mX2_holds) (k := 6) dX2_holds_19 (sF_at (by assumption)) rfl q430 ?_
    refine wf_getN (k := 6) (l := 6) 1 dX2_holds_22 (by assumption) rfl q1196 (Or.inl rfl) (Nat.le_of_ble_eq_true rfl) (Nat.le_of_ble_eq_true rfl) (by (repeat (first | exact updF_self _ _ _ _ | (apply updF_i; · decide) | (apply updF_a; · first | assumption | (apply Ne.symm; assumption) | omega) | (apply newF_a; · first | assumption | (apply Ne.symm; assumption) | omega) | exact newL_self (by rfl) | exact newF_self (by rfl) | (apply cpyF_a; · first | assumption | (apply Ne.symm; assumption) | omega))) <;> first | assumption | rfl) ?_
    refine wa_if_ne (pc := 25) 47 dX2_holds_25 rfl (fun hb25 => ?_) (fun hb25 => ?_)
    · have hb : hlB f k c had = false := by unfold hlB isBl; rw [c3.resolve_left hb25]; simp
      refine wa_iconst (pc := 47) (y := mX2_holds) (Int32.ofNat 0) dX2_holds_47 rfl ?_
      refine wa_ireturn (pc := 48) (y := mX2_holds) .boolean dX2_holds_48 rfl (by first | rfl | exact bI_nar _) (by first | exact no hb h4 F4 fr5 cst5 | exact no hb h3 F3 fr3 (cst3.mono (by omega)) | exact no hb h F Fr.refl (Cst.refl.mono (by omega)))
    · have hbl : isBl f k = false := by unfold isBl; rw [hb25]; decide
      refine wa_aloadV_n (pc := 28) (y := mX2_holds) dX2_holds_28 rfl (by first | exact rf_s _ | exact rf_n | exact rf_q _) ?_
      refine wa_iload_n (pc := 29) (y := mX2_holds) dX2_holds_29 rfl ?_
      refine wa_iload_n (pc := 30) (y := mX2_holds) dX2_holds_30 rfl ?_
      refine wa_callV (pc := 31) (s_X2_at (d := d - 1) (by omega) S ha hc) dX2_holds_31 okX2_at q410 q411 q412 (sF_at (by assumption)) rfl rfl rfl (Nat.le_of_ble_eq_true rfl) (Nat.le_of_ble_eq_true rfl) (by omega) ?_
      rintro _ _ - - ⟨h3, F3, o, rfl, rfl, fr3, cst3, aq⟩
      refine aft_v (pc2 := 34) ?_ rfl
      have S3 := S.rd fr3; have S3_is := S3.is
      refine wa_ifnonnullV (pc := 34) 47 dX2_holds_34 rfl (by first | exact rf_s _ | exact rf_n | exact rf_q _) (fun a34 hb34 => ?_) (fun hb34 => ?_)
      · have hb : hlB f k c had = false := by obtain ⟨i, p, e1, -⟩ := aq.2 _ hb34; unfold hlB; rw [e1]; simp
        refine wa_iconst (pc := 47) (y := mX2_holds) (Int32.ofNat 0) dX2_holds_47 rfl ?_
        refine wa_ireturn (pc := 48) (y := mX2_holds) .boolean dX2_holds_48 rfl (by first | rfl | exact bI_nar _) (by first | exact no hb h4 F4 fr5 cst5 | exact no hb h3 F3 fr3 (cst3.mono (by omega)) | exact no hb h F Fr.refl (Cst.refl.mono (by omega)))
      · refine wa_aloadV_n (pc := 37) (y := mX2_holds) dX2_holds_37 rfl (by first | exact rf_s _ | exact rf_n | exact rf_q _) ?_
        refine wa_iload_n (pc := 38) (y := mX2_holds) dX2_holds_38 rfl ?_
        refine wa_iload_n (pc := 39) (y := mX2_holds) dX2_holds_39 rfl ?_
        refine wa_callV (pc := 40) (s_X2_level (d := d - 1) (by omega) S3 hk2 hc) dX2_holds_40 okX2_level q1103 q407 q408 (sF_at (by assumption)) rfl rfl rfl (Nat.le_of_ble_eq_true rfl) (Nat.le_of_ble_eq_true rfl) (by omega) ?_
        rintro _ _ - - ⟨h4, F4, rfl, rfl, fr4, cst4⟩
        refine aft_v (pc2 := 43) ?_ rfl
        have fr5 : Fr NoP h F h4 F4 := fr3.trans fr4 fun _ _ q => q
        have cst5 : Cst 30 h h4 := (cst3.trans cst4).mono (by omega)
        refine wa_iload_n (pc := 43) (y := mX2_holds) dX2_holds_43 rfl ?_
        refine wa_icmp_ne (pc := 44) 49 dX2_holds_44 rfl (fun hb44 => ?_) (fun hb44 => ?_)
        · have hb : hlB f k c had = true := hlB_of hk2 hbl (aq.1 hb34) hb44
          have hF : hlF f k c had = giF f (Int32.ofNat m) (Int32.ofNat c) had 0 := by unfold hlF; rw [if_pos hb, hm]
          have hg : gv f (Int32.ofNat m) (Int32.ofNat c) = none := by rw [← hm]; exact aq.1 hb34
          have S4 := S.rd fr5
          have S4_is := S4.is; have S4_0 := S4.f0; have S4_1 := S4.f1; have S4_2 := S4.f2; have S4_3 := S4.f3; have S4_4 := S4.f4; have S4_5 := S4.f5; have S4_6 := S4.f6; have S4_7 := S4.f7; have S4_h := S4.hm; have S4_c := S4.cl.1; have S4_l := S4.fl.1; have S4_m := S4.im.1
          have C4 := S4.cue k a ha; have d1 := C4.1; have d2 := C4.2.2.1; rw [hm] at d2
          have n9 : s ≠ h4.1 := Nat.ne_of_lt S4_is.lt; have n8 : a ≠ h4.1 := Nat.ne_of_lt d1.lt
          have i9 := S4_is.new (k2 := 4) (l2 := 2); have i8 := S4_c.new (k2 := 4) (l2 := 2); have i7 := d1.new (k2 := 4) (l2 := 2)
          have S9 := S4.rd (Fr.newT (k := 4) (l := 2) (g := fun i => [Value.int 0, .int 0].getD i .null) Fr.refl)
          refine wa_aloadV_n (pc := 49) (y := mX2_holds) dX2_holds_49 rfl (by first | exact rf_s _ | exact rf_n | exact rf_q _) ?_
          refine wf_get (k := 1) (l := 8) 1 dX2_holds_50 (by assumption) rfl q357 (Or.inl rfl) (Nat.le_of_ble_eq_true rfl) (Nat.le_of_ble_eq_true rfl) (by (repeat (first | exact updF_self _ _ _ _ | (apply updF_i; · decide) | (apply updF_a; · first | assumption | (apply Ne.symm; assumption) | omega) | (apply newF_a; · first | assumption | (apply Ne.symm; assumption) | omega) | exact newL_self (by rfl) | exact newF_self (by rfl) | (apply cpyF_a; · first | assumption | (apply Ne.symm; assumption) | omega))) <;> first | assumption | rfl) ?_
          refine wf_new (k := 4) (l := 2) [.int 0, .int 0] tyX5 dX2_holds_53 rfl q414 q415 q98 tyX5_ok rfl rfl ?_
          refine wa_dup (pc := 56) (y := mX2_holds) dX2_holds_56 (by first | rfl | exact rf_cat _) ?_
          refine wa_aloadV_n (pc := 57) (y := mX2_holds) dX2_holds_57 rfl (by first | exact rf_s _ | exact rf_n | exact rf_q _) ?_
          refine wf_get (k := 1) (l := 8) 0 dX2_holds_58 (by assumption) rfl q355 (Or.inl rfl) (Nat.le_of_ble_eq_true rfl) (Nat.le_of_ble_eq_true rfl) (by (repeat (first | exact updF_self _ _ _ _ | (apply updF_i; · decide) | (apply updF_a; · first | assumption | (apply Ne.symm; assumption) | omega) | (apply newF_a; · first | assumption | (apply Ne.symm; assumption) | omega) | exact newL_self (by rfl) | exact newF_self (by rfl) | (apply cpyF_a; · first | assumption | (apply Ne.symm; assumption) | omega))) <;> first | assumption | rfl) ?_
          refine wa_iload_n (pc := 61) (y := mX2_holds) dX2_holds_61 rfl ?_
          refine wa_callV (pc := 62) (s_J2_get (d := d - 1) (by omega) S9.cl ha) dX2_holds_62 okJ2_get q416 q417 q418 (sF_at (by assumption)) rfl rfl rfl (Nat.le_of_ble_eq_true rfl) (Nat.le_of_ble_eq_true rfl) (by omega) ?_
          rintro _ _ - - ⟨rfl, rfl⟩
          refine aft_v (pc2 := 65) ?_ rfl
          refine wa_castS (pc := 65) (y := mX2_holds) (k := 6) dX2_holds_65 (sF_at (by assumption)) rfl q430 ?_
          refine wf_getN (k := 6) (l := 6) 0 dX2_holds_68 (by assumption) rfl q1193 (Or.inl rfl) (Nat.le_of_ble_eq_true rfl) (Nat.le_of_ble_eq_true rfl) (by (repeat (first | exact updF_self _ _ _ _ | (apply updF_i; · decide) | (apply updF_a; · first | assumption | (apply Ne.symm; assumption) | omega) | (apply newF_a; · first | assumption | (apply Ne.symm; assumption) | omega) | exact newL_self (by rfl) | exact newF_self (by rfl) | (apply cpyF_a; · first | assumption | (apply Ne.symm; assumption) | omega))) <;> first | assumption | rfl) ?_
          refine wa_iload_n (pc := 71) (y := mX2_holds) dX2_holds_71 rfl ?_
          refine wa_callI (pc := 72) (s_X5_init (d := d - 1) (q := h4.1) (x := Int32.ofNat m) (z := Int32.ofNat c) (by omega) (Is.self (h := h4))) dX2_holds_72 okX5_init rfl rfl rfl q431 q432 rfl rfl (Nat.le_of_ble_eq_true rfl) (Nat.le_of_ble_eq_true rfl) (by omega) ?_
          rintro _ _ - - ⟨rfl, rfl⟩
          refine aft_0 (pc2 := 75) ?_ rfl
          generalize hF5 : updF _ _ _ _ = F5
          have fr6 : Fr NoP h4 F4 (hNew h4 4 2) F5 := by rw [← hF5]; exact ((Fr.newT Fr.refl).updT (Or.inr (Nat.le_refl _))).updT (Or.inr (Nat.le_refl _))
          have K : KeyAt (hNew h4 4 2) F5 h4.1 (12 * m + c) := by rw [← hF5]; exact ⟨Is.self, by rw [show (12 * m + c) / 12 = m by omega]; exact updF_i (by decide) (updF_self _ _ _ _), by rw [show (12 * m + c) % 12 = c by omega]; exact updF_self _ _ _ _, by omega⟩
          refine wf_new (k := 7) (l := 2) [.int 0, .int 0] tyX9 dX2_holds_75 rfl q1944 q1945 q135 tyX9_ok rfl rfl ?_
          refine wa_dup (pc := 78) (y := mX2_holds) dX2_holds_78 (by first | rfl | exact rf_cat _) ?_
          refine wa_iconst (pc := 79) (y := mX2_holds) (Int32.ofNat 0) dX2_holds_79 rfl ?_
          refine wa_iload_n (pc := 80) (y := mX2_holds) dX2_holds_80 rfl ?_
          refine wa_callI (pc := 81) (s_X9_init (d := d - 1) (q := (hNew h4 4 2).1) (x := Int32.ofNat 0) (z := had) (by omega) (Is.self (h := hNew h4 4 2))) dX2_holds_81 okX9_init rfl rfl rfl q1946 q1947 rfl rfl (Nat.le_of_ble_eq_true rfl) (Nat.le_of_ble_eq_true rfl) (by omega) ?_
          rintro _ _ - - ⟨rfl, rfl⟩
          refine aft_0 (pc2 := 84) ?_ rfl
          generalize hF6 : updF _ _ _ _ = F6
          have fr7 : Fr NoP (hNew h4 4 2) F5 (hNew (hNew h4 4 2) 7 2) F6 := by rw [← hF6]; exact ((Fr.newT Fr.refl).updT (Or.inr (Nat.le_refl _))).updT (Or.inr (Nat.le_refl _))
          have T : TldR (hNew (hNew h4 4 2) 7 2) F6 (hNew h4 4 2).1 had 0 := by rw [← hF6]; exact ⟨by decide, updF_i (by decide) (updF_self _ _ _ _), Or.inr ⟨hh, Is.self, updF_self _ _ _ _⟩⟩
          have K6 : KeyAt (hNew (hNew h4 4 2) 7 2) F6 h4.1 (12 * m + c) := ⟨fr7.is K.1, (fr7.at K.1.lt (fun q => q) 0).trans K.2.1, (fr7.at K.1.lt (fun q => q) 1).trans K.2.2.1, K.2.2.2⟩
          have S6 := (S4.rd fr6).rd fr7
          have S6_m := S6.im.1
          have hni := S6.ni
          refine wa_callW (k := 12) (pc := 84) (owner := "java/util/HashMap") (s_J4_put (d := d - 1) (vv := (hNew h4 4 2).1) (by omega) hG S6.im S6.tk (by omega) K6) dX2_holds_84 okJ4_put rfl q1962 q1963 (hDc_code q1966 q1967) (by decide) q1965 q1966 (sF_at (by assumption)) rfl rfl rfl rfl (Nat.le_of_ble_eq_true rfl) (Nat.le_of_ble_eq_true rfl) (by omega) ?_
          rintro r h' - - Q
          obtain ⟨h7, F7, ns7, ks7, w, rfl, hw, rfl, fr8, cst8, S7⟩ := S6.putN (cc := 0) (ss := 0) (x := 0) (k2 := 0) (ns2 := []) hc m2 hg (by omega) T Q
          refine aft_v (pc2 := 87) ?_ rfl
          refine wa_pop (pc := 87) (y := mX2_holds) dX2_holds_87 hw ?_
          refine wa_iconst (pc := 88) (y := mX2_holds) (Int32.ofNat 1) dX2_holds_88 rfl ?_
          refine wa_ireturn (pc := 89) (y := mX2_holds) .boolean dX2_holds_89 rfl (by first | rfl | exact bI_nar _) ⟨h7, F7, ns7, ks7, by rw [hb]; rfl, rfl, (fr5.op.opT (fr6.op.opT (fr7.op.opT fr8))), (cst5.trans ((show Cst 2 h4 (hNew (hNew h4 4 2) 7 2) from ⟨by show h4.1 + 1 + 1 ≤ h4.1 + 2; omega, by show h4.2.1 + 2 + 2 ≤ h4.2.1 + 4 * 2; omega⟩).trans cst8)).mono (by omega), by rw [hF]; exact S7.mono fun b _ hb => hb.imp (fun q => q) (fun q => Nat.le_trans (Nat.le_trans fr5.1.1 (Nat.le_trans fr6.1.1 fr7.1.1)) q)⟩
        · have hb : hlB f k c had = false := by unfold hlB; rw [decide_eq_true hb44]; simp
          refine wa_iconst (pc := 47) (y := mX2_holds) (Int32.ofNat 0) dX2_holds_47 rfl ?_
          refine wa_ireturn (pc := 48) (y := mX2_holds) .boolean dX2_holds_48 rfl (by first | rfl | exact bI_nar _) (by first | exact no hb h4 F4 fr5 cst5 | exact no hb h3 F3 fr3 (cst3.mono (by omega)) | exact no hb h F Fr.refl (Cst.refl.mono (by omega)))
  · have hb : hlB f k c had = false := by unfold hlB; simp [hk2]
    refine wa_iload_n (pc := 0) (y := mX2_holds) dX2_holds_0 rfl ?_
    refine wa_aloadV_n (pc := 1) (y := mX2_holds) dX2_holds_1 rfl (by first | exact rf_s _ | exact rf_n | exact rf_q _) ?_
    refine wf_get (k := 1) (l := 8) 0 dX2_holds_2 (by assumption) rfl q355 (Or.inl rfl) (Nat.le_of_ble_eq_true rfl) (Nat.le_of_ble_eq_true rfl) (by (repeat (first | exact updF_self _ _ _ _ | (apply updF_i; · decide) | (apply updF_a; · first | assumption | (apply Ne.symm; assumption) | omega) | (apply newF_a; · first | assumption | (apply Ne.symm; assumption) | omega) | exact newL_self (by rfl) | exact newF_self (by rfl) | (apply cpyF_a; · first | assumption | (apply Ne.symm; assumption) | omega))) <;> first | assumption | rfl) ?_
    refine wa_callV (pc := 5) (s_J2_size (d := d - 1) S.cl) dX2_holds_5 okJ2_size q1181 q1145 q1146 (sF_at (by assumption)) rfl rfl rfl (Nat.le_of_ble_eq_true rfl) (Nat.le_of_ble_eq_true rfl) (by omega) ?_
    rintro _ _ - - ⟨rfl, rfl⟩
    refine aft_v (pc2 := 8) ?_ rfl
    refine wa_icmp_ge (pc := 8) 47 dX2_holds_8 rfl (fun hb8 => ?_) (fun hb8 => absurd ((iN_le (by omega) (by omega)).mpr (by omega)) hb8)
    refine wa_iconst (pc := 47) (y := mX2_holds) (Int32.ofNat 0) dX2_holds_47 rfl ?_
    refine wa_ireturn (pc := 48) (y := mX2_holds) .boolean dX2_holds_48 rfl (by first | rfl | exact bI_nar _) (no hb h F Fr.refl (Cst.refl.mono (by omega)))
end HOLDS
