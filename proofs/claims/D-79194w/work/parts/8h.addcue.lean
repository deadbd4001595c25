/-! ===== addCue, levels ===== -/
def AddQ (G : GG) (h : AH) (F : Nat → Nat → Value) (O : Nat → Prop) (s : Nat) (f g : Nat → Int32) (v : Int32) (r : RR) (h' : AH) : Prop := (dA f v).1 = 1 ∧ ThQ 23 h F r h' ∨ (dA f v).1 = 2 ∧ ThQ 24 h F r h' ∨ (dA f v).1 = 0 ∧ ∃ (h2 : AH) (F2 : Nat → Nat → Value) (A2 : SA), r = .inl none ∧ h' = sF h2 F2 ∧ Fr (OP O h) h F h2 F2 ∧ Cst 60 h h2 ∧ ShowR G h2 F2 (fun b => O b ∨ h.1 ≤ b) s A2 (dA f v).2 g
section ADDC
variable {G : GG} {d n : Nat} {h h2 : AH} {F F2 : Nat → Nat → Value} {s c k i j p q a : Nat} {A : SA} {f g : Nat → Int32} {O P : Nat → Prop} {x z v : Int32}
theorem inb_u {lo hi : Nat} (hh : hi < 2147483648) (e : inb v (Int32.ofNat lo) (Int32.ofNat hi) = true) (hl : lo ≤ hi) : lo ≤ u v ∧ u v ≤ hi := by
  unfold inb at e
  simp only [Bool.and_eq_true, decide_eq_true_eq] at e
  obtain ⟨e1, e2⟩ := e
  have i1 : (lo : Int) ≤ v.toInt := by have := Int32.le_iff_toInt_le.mp e1; rwa [iN_toInt (by omega)] at this
  have i2 : v.toInt ≤ (hi : Int) := by have := Int32.le_iff_toInt_le.mp e2; rwa [iN_toInt (by omega)] at this
  have i3 : v.toInt = (u v : Int) := by
    have h1 : v.toInt = v.toBitVec.toInt := rfl
    rw [h1] at i1 i2 ⊢
    unfold u
    rw [BitVec.toInt_eq_toNat_cond] at i1 i2 ⊢
    split at i1 <;> rename_i hlt
    · rw [if_pos hlt]
    · exfalso
      have := v.toBitVec.isLt
      omega
  omega
theorem s_X2_addCue (hd : 8 ≤ d) (hG : StG G) (S : ShowR G h F O s A f g) (hO : ∀ b, O b → b < h.1) : MA G d mX2_addCue [.ref s, .int v] (sF h F) (AddQ G h F O s f g v) := by
  have S_is := S.is; have S_0 := S.f0; have S_1 := S.f1; have S_2 := S.f2; have S_3 := S.f3; have S_4 := S.f4; have S_5 := S.f5; have S_6 := S.f6; have S_7 := S.f7; have S_h := S.hm; have S_c := S.cl.1; have S_l := S.fl.1; have S_m := S.im.1
  have hn := S.nlt
  have hnc := S.nc
  have k49 : inb v 1 99 = true → isC f v = false → u (f 0) < 12 → ∀ (t k : Nat), k + t = u (f 0) → ip f v = ipg f v t k → WA G d mX2_addCue 49 [.ref s, .int v, .int (Int32.ofNat k)] [] (sF h F) (AddQ G h F O s f g v) := by
    intro q1 q2 q3
    have hA : dA f v = (0, adF f v (ip f v)) := by unfold dA; rw [if_neg (by rw [q1, q2]; simp), if_neg (by omega)]
    have hv := inb_u (lo := 1) (hi := 99) (by decide) q1 (by decide)
    have hip := ip_le f v
    have k84 : WA G d mX2_addCue 84 [.ref s, .int v, .int (Int32.ofNat (ip f v))] [] (sF h F) (AddQ G h F O s f g v) := by
      refine wa_aloadV_n (pc := 84) (y := mX2_addCue) dX2_addCue_84 rfl (by first | exact rf_s _ | exact rf_n | exact rf_q _) ?_
      refine wf_get (k := 1) (l := 8) 0 dX2_addCue_85 (by assumption) rfl q355 (Or.inl rfl) (Nat.le_of_ble_eq_true rfl) (Nat.le_of_ble_eq_true rfl) (by (repeat (first | exact updF_self _ _ _ _ | (apply updF_i; · decide) | (apply updF_a; · first | assumption | (apply Ne.symm; assumption) | omega) | (apply newF_a; · first | assumption | (apply Ne.symm; assumption) | omega) | exact newL_self (by rfl) | exact newF_self (by rfl) | (apply cpyF_a; · first | assumption | (apply Ne.symm; assumption) | omega))) <;> first | assumption | rfl) ?_
      refine wa_iload_n (pc := 88) (y := mX2_addCue) dX2_addCue_88 rfl ?_
      refine wf_new (k := 6) (l := 6) [.int 0, .int 0, .int 0, .int 0, .null, .null] tyX7 dX2_addCue_89 rfl q430 q1187 q116 tyX7_ok rfl rfl ?_
      refine wa_dup (pc := 92) (y := mX2_addCue) dX2_addCue_92 (by first | rfl | exact rf_cat _) ?_
      refine wa_iload_n (pc := 93) (y := mX2_addCue) dX2_addCue_93 rfl ?_
      refine wa_callI (pc := 94) (s_X7_init (d := d - 1) (a := h.1) (v := v) (by omega) (Is.self (h := h))) dX2_addCue_94 okX7_init rfl rfl rfl q1724 q1189 rfl rfl (Nat.le_of_ble_eq_true rfl) (Nat.le_of_ble_eq_true rfl) (by omega) ?_
      rintro _ _ - - ⟨h2, F2, rfl, rfl, fr0, cst, i1, i2, e0, e1, e2, e3, e4, e5, e6⟩
      refine aft_0 (pc2 := 97) ?_ rfl
      have e1 : F2 h.1 1 = .int 0 := e1.trans (newF_self rfl)
      have e2 : F2 h.1 2 = .int 0 := e2.trans (newF_self rfl)
      have fr : Fr NoP h F h2 F2 := (Fr.newT Fr.refl).trans fr0 (fun b hb e => absurd e (by omega))
      have S2 := S.rd fr
      have S2_is := S2.is; have S2_0 := S2.f0; have S2_1 := S2.f1; have S2_2 := S2.f2; have S2_3 := S2.f3; have S2_4 := S2.f4; have S2_5 := S2.f5; have S2_6 := S2.f6; have S2_7 := S2.f7; have S2_h := S2.hm; have S2_c := S2.cl.1; have S2_l := S2.fl.1; have S2_m := S2.im.1
      have ib : Is h2 h.1 6 6 := (Is.self (h := h)).ext fr0.1
      refine wa_callV (pc := 97) (s_J2_add_3 (d := d - 1) (i := ip f v) (x := h.1) (by omega) hG S2.cl (by omega) (by omega) ⟨6, 6, ib, Or.inr (Or.inr (Or.inl rfl))⟩) dX2_addCue_97 okJ2_add_3 q1725 q1726 q1727 (sF_at (by assumption)) rfl rfl rfl (Nat.le_of_ble_eq_true rfl) (Nat.le_of_ble_eq_true rfl) (by omega) ?_
      rintro _ _ - - ⟨rfl, h3, F3, ca2, cc2, rfl, L3, fr3, har, b1, b2⟩
      refine aft_0 (pc2 := 100) ?_ rfl
      refine wa_return (pc := 100) (y := mX2_addCue) dX2_addCue_100 rfl (Or.inr (Or.inr ⟨by rw [hA], h3, F3, _, rfl, rfl, (fr.op.trans fr3 (fun b hb hb2 => ⟨S2.own b (Or.inr (Or.inr (Or.inl hb2))), fun hk => by rcases hk with e | e | e <;> (rcases hb2 with e9 | ⟨e9, z9, hz9⟩; exact absurd e9 ((e.ext fr.1).ne S2_c (by decide)); exact absurd e9 ((e.ext fr.1).ne hz9 (by decide)))⟩)), ⟨by have := cst.1; have e : (hNew h 6 6).1 = h.1 + 1 := rfl; omega, by have := cst.2; have e : (hNew h 6 6).2.1 = h.2.1 + 6 := rfl; omega⟩, by rw [hA]; exact S2.addC (O2 := fun b => O b ∨ h.1 ≤ b) (a := h.1) (dla := (hNew h 6 6).1) (tma := (hNew h 6 6).1 + 1) (by omega) q3 hv (fun b hb => by have := hO b hb; have e : (hNew h 6 6).1 = h.1 + 1 := rfl; omega) (fun b hb => Or.inl hb) (fun b hb => Or.inr (Nat.le_trans fr.1.1 hb)) ⟨Or.inr (Nat.le_refl _), Or.inr (Nat.le_succ _), Or.inr (by show h.1 ≤ h.1 + 1 + 1; omega)⟩ (by omega) ib i1 i2 e0 e1 e2 e3 e4 e5 e6 L3 fr3 har⟩))
    intro t
    induction t with
    | zero =>
      intro k hk e
      have e : ip f v = k := e
      refine wa_iload_n (pc := 49) (y := mX2_addCue) dX2_addCue_49 rfl ?_
      refine wa_aloadV_n (pc := 50) (y := mX2_addCue) dX2_addCue_50 rfl (by first | exact rf_s _ | exact rf_n | exact rf_q _) ?_
      refine wf_get (k := 1) (l := 8) 0 dX2_addCue_51 (by assumption) rfl q355 (Or.inl rfl) (Nat.le_of_ble_eq_true rfl) (Nat.le_of_ble_eq_true rfl) (by (repeat (first | exact updF_self _ _ _ _ | (apply updF_i; · decide) | (apply updF_a; · first | assumption | (apply Ne.symm; assumption) | omega) | (apply newF_a; · first | assumption | (apply Ne.symm; assumption) | omega) | exact newL_self (by rfl) | exact newF_self (by rfl) | (apply cpyF_a; · first | assumption | (apply Ne.symm; assumption) | omega))) <;> first | assumption | rfl) ?_
      refine wa_callV (pc := 54) (s_J2_size (d := d - 1) S.cl) dX2_addCue_54 okJ2_size q1181 q1145 q1146 (sF_at (by assumption)) rfl rfl rfl (Nat.le_of_ble_eq_true rfl) (Nat.le_of_ble_eq_true rfl) (by omega) ?_
      rintro _ _ - - ⟨rfl, rfl⟩
      refine aft_v (pc2 := 57) ?_ rfl
      refine wa_icmp_ge (pc := 57) 84 dX2_addCue_57 rfl (fun hb57 => ?_) (fun hb57 => absurd ((iN_le (by omega) (by omega)).mpr (by omega)) hb57)
      rw [← e]; exact k84
    | succ t ih =>
      intro k hk e
      obtain ⟨a, ha⟩ := S.cu (k := k) (by omega)
      have C := S.cue k a ha
      have c1 := C.1
      have c2 := C.2.2.1
      refine wa_iload_n (pc := 49) (y := mX2_addCue) dX2_addCue_49 rfl ?_
      refine wa_aloadV_n (pc := 50) (y := mX2_addCue) dX2_addCue_50 rfl (by first | exact rf_s _ | exact rf_n | exact rf_q _) ?_
      refine wf_get (k := 1) (l := 8) 0 dX2_addCue_51 (by assumption) rfl q355 (Or.inl rfl) (Nat.le_of_ble_eq_true rfl) (Nat.le_of_ble_eq_true rfl) (by (repeat (first | exact updF_self _ _ _ _ | (apply updF_i; · decide) | (apply updF_a; · first | assumption | (apply Ne.symm; assumption) | omega) | (apply newF_a; · first | assumption | (apply Ne.symm; assumption) | omega) | exact newL_self (by rfl) | exact newF_self (by rfl) | (apply cpyF_a; · first | assumption | (apply Ne.symm; assumption) | omega))) <;> first | assumption | rfl) ?_
      refine wa_callV (pc := 54) (s_J2_size (d := d - 1) S.cl) dX2_addCue_54 okJ2_size q1181 q1145 q1146 (sF_at (by assumption)) rfl rfl rfl (Nat.le_of_ble_eq_true rfl) (Nat.le_of_ble_eq_true rfl) (by omega) ?_
      rintro _ _ - - ⟨rfl, rfl⟩
      refine aft_v (pc2 := 57) ?_ rfl
      refine wa_icmp_ge (pc := 57) 84 dX2_addCue_57 rfl (fun hb57 => absurd ((iN_le (by omega) (by omega)).mp hb57) (by omega)) (fun hb57 => ?_)
      refine wa_aloadV_n (pc := 60) (y := mX2_addCue) dX2_addCue_60 rfl (by first | exact rf_s _ | exact rf_n | exact rf_q _) ?_
      refine wf_get (k := 1) (l := 8) 0 dX2_addCue_61 (by assumption) rfl q355 (Or.inl rfl) (Nat.le_of_ble_eq_true rfl) (Nat.le_of_ble_eq_true rfl) (by (repeat (first | exact updF_self _ _ _ _ | (apply updF_i; · decide) | (apply updF_a; · first | assumption | (apply Ne.symm; assumption) | omega) | (apply newF_a; · first | assumption | (apply Ne.symm; assumption) | omega) | exact newL_self (by rfl) | exact newF_self (by rfl) | (apply cpyF_a; · first | assumption | (apply Ne.symm; assumption) | omega))) <;> first | assumption | rfl) ?_
      refine wa_iload_n (pc := 64) (y := mX2_addCue) dX2_addCue_64 rfl ?_
      refine wa_callV (pc := 65) (s_J2_get (d := d - 1) (by omega) S.cl ha) dX2_addCue_65 okJ2_get q416 q417 q418 (sF_at (by assumption)) rfl rfl rfl (Nat.le_of_ble_eq_true rfl) (Nat.le_of_ble_eq_true rfl) (by omega) ?_
      rintro _ _ - - ⟨rfl, rfl⟩
      refine aft_v (pc2 := 68) ?_ rfl
      refine wa_castS (pc := 68) (y := mX2_addCue) (k := 6) dX2_addCue_68 (sF_at (by assumption)) rfl q430 ?_
      refine wf_getN (k := 6) (l := 6) 0 dX2_addCue_71 (by assumption) rfl q1193 (Or.inl rfl) (Nat.le_of_ble_eq_true rfl) (Nat.le_of_ble_eq_true rfl) (by (repeat (first | exact updF_self _ _ _ _ | (apply updF_i; · decide) | (apply updF_a; · first | assumption | (apply Ne.symm; assumption) | omega) | (apply newF_a; · first | assumption | (apply Ne.symm; assumption) | omega) | exact newL_self (by rfl) | exact newF_self (by rfl) | (apply cpyF_a; · first | assumption | (apply Ne.symm; assumption) | omega))) <;> first | assumption | rfl) ?_
      refine wa_iload_n (pc := 74) (y := mX2_addCue) dX2_addCue_74 rfl ?_
      refine wa_icmp_ge (pc := 75) 84 dX2_addCue_75 rfl (fun hb75 => ?_) (fun hb75 => ?_)
      · have e9 : ip f v = k := by rw [e]; unfold ipg; rw [if_neg (Int32.not_lt.mpr hb75)]
        rw [← e9]; exact k84
      · refine wa_iincN (pc := 78) (y := mX2_addCue) dX2_addCue_78 rfl (Nat.le_of_ble_eq_true rfl) (by first | rfl | (simp [okst, rf_cat] <;> assumption)) ?_
        simp only [List.set_cons_zero, List.set_cons_succ]
        refine wa_goto (pc := 81) (y := mX2_addCue) 49 dX2_addCue_81 rfl ?_
        exact ih (k + 1) (by omega) (by rw [e]; conv => lhs; unfold ipg; rw [if_pos (Int32.not_le.mp hb75)])
  have k24 : ∀ b : Bool, (b = true → inb v 1 99 = true ∧ isC f v = false) → (b = false → inb v 1 99 = false ∨ isC f v = true) → WA G d mX2_addCue 24 [.ref s, .int v, .retAddr 0] [.int (bI b)] (sF h F) (AddQ G h F O s f g v) := by
    intro b hb1 hb2
    cases b with
    | false =>
      have hA : (dA f v).1 = 1 := by unfold dA; rw [if_pos (hb2 rfl)]
      refine wa_callSN (pc := 24) (s_X1_checkArgument (d := d - 1) (b := false) (by omega)) dX2_addCue_24 okX1_checkArgument rfl q1698 q1699 rfl rfl (Nat.le_of_ble_eq_true rfl) (Nat.le_of_ble_eq_true rfl) (by omega) ?_
      rintro r h' - - (⟨hb, -, -⟩ | ⟨-, T⟩)
      · cases hb
      exact T.after ⟨_, rfl⟩ rfl fun h2 F2 q fr cst iq => Or.inl ⟨hA, h2, F2, q, rfl, rfl, fr, cst, iq⟩
    | true =>
      obtain ⟨q1, q2⟩ := hb1 rfl
      by_cases q3 : u (f 0) < 12
      · refine wa_callSN (pc := 24) (s_X1_checkArgument (d := d - 1) (b := true) (by omega)) dX2_addCue_24 okX1_checkArgument rfl q1698 q1699 rfl rfl (Nat.le_of_ble_eq_true rfl) (Nat.le_of_ble_eq_true rfl) (by omega) ?_
        rintro r h' - - (⟨-, rfl, rfl⟩ | ⟨hb, -⟩)
        rotate_left
        · cases hb
        refine aft_0 (pc2 := 27) ?_ rfl
        refine wa_aloadV_n (pc := 27) (y := mX2_addCue) dX2_addCue_27 rfl (by first | exact rf_s _ | exact rf_n | exact rf_q _) ?_
        refine wf_get (k := 1) (l := 8) 0 dX2_addCue_28 (by assumption) rfl q355 (Or.inl rfl) (Nat.le_of_ble_eq_true rfl) (Nat.le_of_ble_eq_true rfl) (by (repeat (first | exact updF_self _ _ _ _ | (apply updF_i; · decide) | (apply updF_a; · first | assumption | (apply Ne.symm; assumption) | omega) | (apply newF_a; · first | assumption | (apply Ne.symm; assumption) | omega) | exact newL_self (by rfl) | exact newF_self (by rfl) | (apply cpyF_a; · first | assumption | (apply Ne.symm; assumption) | omega))) <;> first | assumption | rfl) ?_
        refine wa_callV (pc := 31) (s_J2_size (d := d - 1) S.cl) dX2_addCue_31 okJ2_size q1181 q1145 q1146 (sF_at (by assumption)) rfl rfl rfl (Nat.le_of_ble_eq_true rfl) (Nat.le_of_ble_eq_true rfl) (by omega) ?_
        rintro _ _ - - ⟨rfl, rfl⟩
        refine aft_v (pc2 := 34) ?_ rfl
        refine wa_bipush (pc := 34) (y := mX2_addCue) (Int32.ofNat 12) dX2_addCue_34 rfl ?_
        refine wa_icmp_ge (pc := 36) 43 dX2_addCue_36 rfl (fun hb36 => absurd ((iN_le (by omega) (by omega)).mp hb36) (by omega)) (fun hb36 => ?_)
        refine wa_iconst (pc := 39) (y := mX2_addCue) (Int32.ofNat 1) dX2_addCue_39 rfl ?_
        refine wa_goto (pc := 40) (y := mX2_addCue) 44 dX2_addCue_40 rfl ?_
        refine wa_callSN (pc := 44) (s_X1_checkState (d := d - 1) (b := true) (by omega)) dX2_addCue_44 okX1_checkState rfl q1706 q1707 rfl rfl (Nat.le_of_ble_eq_true rfl) (Nat.le_of_ble_eq_true rfl) (by omega) ?_
        rintro r h' - - (⟨-, rfl, rfl⟩ | ⟨hb, -⟩)
        rotate_left
        · cases hb
        refine aft_0 (pc2 := 47) ?_ rfl
        refine wa_iconst (pc := 47) (y := mX2_addCue) (Int32.ofNat 0) dX2_addCue_47 rfl ?_
        refine wa_istore_n (pc := 48) (y := mX2_addCue) dX2_addCue_48 (Nat.le_of_ble_eq_true rfl) (by first | rfl | (simp [okst, rf_cat] <;> assumption)) ?_
        change WA _ _ _ _ (List.set _ 2 _) _ _ _
        simp only [List.set_cons_zero, List.set_cons_succ]
        exact k49 q1 q2 q3 _ _ (by omega) rfl
      · have hA : (dA f v).1 = 2 := by unfold dA; rw [if_neg (by rw [q1, q2]; simp), if_pos (by omega)]
        refine wa_callSN (pc := 24) (s_X1_checkArgument (d := d - 1) (b := true) (by omega)) dX2_addCue_24 okX1_checkArgument rfl q1698 q1699 rfl rfl (Nat.le_of_ble_eq_true rfl) (Nat.le_of_ble_eq_true rfl) (by omega) ?_
        rintro r h' - - (⟨-, rfl, rfl⟩ | ⟨hb, -⟩)
        rotate_left
        · cases hb
        refine aft_0 (pc2 := 27) ?_ rfl
        refine wa_aloadV_n (pc := 27) (y := mX2_addCue) dX2_addCue_27 rfl (by first | exact rf_s _ | exact rf_n | exact rf_q _) ?_
        refine wf_get (k := 1) (l := 8) 0 dX2_addCue_28 (by assumption) rfl q355 (Or.inl rfl) (Nat.le_of_ble_eq_true rfl) (Nat.le_of_ble_eq_true rfl) (by (repeat (first | exact updF_self _ _ _ _ | (apply updF_i; · decide) | (apply updF_a; · first | assumption | (apply Ne.symm; assumption) | omega) | (apply newF_a; · first | assumption | (apply Ne.symm; assumption) | omega) | exact newL_self (by rfl) | exact newF_self (by rfl) | (apply cpyF_a; · first | assumption | (apply Ne.symm; assumption) | omega))) <;> first | assumption | rfl) ?_
        refine wa_callV (pc := 31) (s_J2_size (d := d - 1) S.cl) dX2_addCue_31 okJ2_size q1181 q1145 q1146 (sF_at (by assumption)) rfl rfl rfl (Nat.le_of_ble_eq_true rfl) (Nat.le_of_ble_eq_true rfl) (by omega) ?_
        rintro _ _ - - ⟨rfl, rfl⟩
        refine aft_v (pc2 := 34) ?_ rfl
        refine wa_bipush (pc := 34) (y := mX2_addCue) (Int32.ofNat 12) dX2_addCue_34 rfl ?_
        refine wa_icmp_ge (pc := 36) 43 dX2_addCue_36 rfl (fun hb36 => ?_) (fun hb36 => absurd ((iN_le (by omega) (by omega)).mpr (by omega)) hb36)
        refine wa_iconst (pc := 43) (y := mX2_addCue) (Int32.ofNat 0) dX2_addCue_43 rfl ?_
        refine wa_callSN (pc := 44) (s_X1_checkState (d := d - 1) (b := false) (by omega)) dX2_addCue_44 okX1_checkState rfl q1706 q1707 rfl rfl (Nat.le_of_ble_eq_true rfl) (Nat.le_of_ble_eq_true rfl) (by omega) ?_
        rintro r h' - - (⟨hb, -, -⟩ | ⟨-, T⟩)
        · cases hb
        exact T.after ⟨_, rfl⟩ rfl fun h2 F2 q fr cst iq => Or.inr (Or.inl ⟨hA, h2, F2, q, rfl, rfl, fr, cst, iq⟩)
  change WA G d mX2_addCue 0 [.ref s, .int v, .retAddr 0] [] _ _
  have hC : isC f v = (pl f v).isSome := rfl
  refine wa_iload_n (pc := 0) (y := mX2_addCue) dX2_addCue_0 rfl ?_
  refine wa_iconst (pc := 1) (y := mX2_addCue) (Int32.ofNat 1) dX2_addCue_1 rfl ?_
  refine wa_bipush (pc := 2) (y := mX2_addCue) (Int32.ofNat 99) dX2_addCue_2 rfl ?_
  refine wa_callSN (pc := 4) (s_X1_isIn (d := d - 1)) dX2_addCue_4 okX1_isIn rfl q1691 q1692 rfl rfl (Nat.le_of_ble_eq_true rfl) (Nat.le_of_ble_eq_true rfl) (by omega) ?_
  rintro _ _ - - ⟨rfl, rfl⟩
  refine aft_v (pc2 := 7) ?_ rfl
  refine wa_if_eq (pc := 7) 23 dX2_addCue_7 rfl (fun hb7 => ?_) (fun hb7 => ?_)
  · have hx := bI_0.mp hb7
    refine wa_iconst (pc := 23) (y := mX2_addCue) (Int32.ofNat 0) dX2_addCue_23 rfl ?_
    first | exact k24 true (fun _ => ⟨hx, hno⟩) (fun e => by cases e) | exact k24 false (fun e => by cases e) (fun _ => Or.inr hyes) | exact k24 false (fun e => by cases e) (fun _ => Or.inl hx)
  · have hx := bI_n0 hb7
    refine wa_aloadV_n (pc := 10) (y := mX2_addCue) dX2_addCue_10 rfl (by first | exact rf_s _ | exact rf_n | exact rf_q _) ?_
    refine wa_iload_n (pc := 11) (y := mX2_addCue) dX2_addCue_11 rfl ?_
    refine wa_callV (pc := 12) (s_X2_indexOf (d := d - 1) (by omega) S) dX2_addCue_12 okX2_indexOf q1694 q1695 q1696 (sF_at (by assumption)) rfl rfl rfl (Nat.le_of_ble_eq_true rfl) (Nat.le_of_ble_eq_true rfl) (by omega) ?_
    rintro _ _ - - ⟨rfl, rfl⟩
    refine aft_v (pc2 := 15) ?_ rfl
    refine wa_iconst (pc := 15) (y := mX2_addCue) (-1) dX2_addCue_15 rfl ?_
    refine wa_icmp_ne (pc := 16) 23 dX2_addCue_16 rfl (fun hb16 => ?_) (fun hb16 => ?_)
    · have hyes : isC f v = true := by rw [hC]; cases e : pl f v with | none => rw [e] at hb16; exact absurd rfl hb16 | some p => rfl
      refine wa_iconst (pc := 23) (y := mX2_addCue) (Int32.ofNat 0) dX2_addCue_23 rfl ?_
      first | exact k24 true (fun _ => ⟨hx, hno⟩) (fun e => by cases e) | exact k24 false (fun e => by cases e) (fun _ => Or.inr hyes) | exact k24 false (fun e => by cases e) (fun _ => Or.inl hx)
    · have hno : isC f v = false := by rw [hC]; cases e : pl f v with | none => rfl | some p => rw [e, oI_some] at hb16; have hp := (pl_some e).1; have e8 := congrArg u hb16; rw [u_of (by omega)] at e8; have : u (-1) = 4294967295 := (by decide); omega
      refine wa_iconst (pc := 19) (y := mX2_addCue) (Int32.ofNat 1) dX2_addCue_19 rfl ?_
      refine wa_goto (pc := 20) (y := mX2_addCue) 24 dX2_addCue_20 rfl ?_
      first | exact k24 true (fun _ => ⟨hx, hno⟩) (fun e => by cases e) | exact k24 false (fun e => by cases e) (fun _ => Or.inr hyes) | exact k24 false (fun e => by cases e) (fun _ => Or.inl hx)
end ADDC
