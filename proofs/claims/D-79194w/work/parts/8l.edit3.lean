/-! ===== Show.edit: the change ===== -/
section EDIT3
variable {G : GG} {d n : Nat} {h h2 h3 : AH} {F F2 F3 : Nat → Nat → Value} {s c k i j p q a arr key : Nat} {A : SA} {f g : Nat → Int32} {O P : Nat → Prop} {x z v had : Int32} {t : Option Nat} {o : Option (Int32 × Int32)} {b : Bool}
theorem iN_m11 (hp : p < 12) : (if Int32.ofNat 11 < Int32.ofNat (p + 1) then Int32.ofNat 11 else Int32.ofNat (p + 1)) = Int32.ofNat (min (p + 1) 11) := iN_min (by omega) (by omega)
theorem ed_64 {N : Nat} {ns : List Nat} {ks : Nat} (hd : 20 ≤ d) (hG : StG G) (hI : Inv f) (hH : HmI f) (hp : pl f v = some p) (hc : c < 12) (fr : Fr (OP O h) h F h2 F2) (cst : Cst N h h2) (hN : N ≤ 2600) (S : ShowR G h2 F2 (fun b => O b ∨ h.1 ≤ b) s (A.wm ns ks) (edF f p c o) g) (to : t = none ↔ o = none)
    (ia : Is h2 arr 32 12) (hv : ∀ j, j < 12 → F2 arr j = .int (if j < u (f 0) then lvN f c (j + 1) else 0)) :
    WA G d mX2_edit 64 [.ref s, .int v, .int (Int32.ofNat c), va_rf t, .int (bI b), .int (Int32.ofNat p), .ref arr, .ref key, .int (bI (gv f (f (18 + 12 * p)) (Int32.ofNat c)).isSome), .retAddr 0] [] (sF h2 F2) (EdtQ G s A f g c v o b O h F) := by
  have h12 := hI.1
  have h60 := hI.2.1
  have hpl := (pl_some hp).1
  have S_is := S.is
  have e0 : edF f p c o 0 = f 0 := edF_lo (by decide) (by decide)
  have h61 := edF_1 (p := p) (c := c) (o := o) h60
  cases b with
  | false =>
    have hR : edR f p c o false = edF f p c o := rfl
    have hG0 : edG f p c o false = false := rfl
    have h98 := ed_98 (v6 := .ref arr) (v7 := .ref key) (b := false) hd hI hp hc fr cst (by omega) (by rw [hR]; exact S) to
    rw [hG0] at h98
    refine wa_iload (pc := 64) (y := mX2_edit) dX2_edit_64 rfl ?_
    refine wa_if_eq (pc := 66) 97 dX2_edit_66 rfl (fun hb66 => ?_) (fun hb66 => absurd rfl hb66)
    refine wa_iconst (pc := 97) (y := mX2_edit) (Int32.ofNat 0) dX2_edit_97 rfl ?_
    exact h98
  | true =>
    have hm := hv (min (p + 1) 11) (by omega)
    have hne : (if min (p + 1) 11 < u (f 0) then lvN f c (min (p + 1) 11 + 1) else 0) ≠ -1 := by
      split
      · exact lvN_ne hH hc _
      · decide
    have hhad := hl_had (f := edF f p c o) (k := p + 1) (c := c) (z := lvN f c (p + 2)) (n := u (f 0)) (had := if min (p + 1) 11 < u (f 0) then lvN f c (min (p + 1) 11 + 1) else 0) (by rw [e0]) (fun hlt => by rw [show min (p + 1) 11 = p + 1 by omega, if_pos hlt])
    have hR : edR f p c o true = hlF (edF f p c o) (p + 1) c (lvN f c (p + 2)) := rfl
    have hG1 : edG f p c o true = hlB (edF f p c o) (p + 1) c (lvN f c (p + 2)) := rfl
    refine wa_iload (pc := 64) (y := mX2_edit) dX2_edit_64 rfl ?_
    refine wa_if_eq (pc := 66) 97 dX2_edit_66 rfl (fun hb66 => absurd hb66 (by decide)) (fun hb66 => ?_)
    refine wa_aloadV_n (pc := 69) (y := mX2_edit) dX2_edit_69 rfl (by first | exact rf_s _ | exact rf_n | exact rf_q _) ?_
    refine wa_iload (pc := 70) (y := mX2_edit) dX2_edit_70 rfl ?_
    refine wa_iconst (pc := 72) (y := mX2_edit) (Int32.ofNat 1) dX2_edit_72 rfl ?_
    first | with_reducible refine wa_iaddN (pc := 73) (y := mX2_edit) dX2_edit_73 ?_ | refine wa_iadd (pc := 73) (y := mX2_edit) dX2_edit_73 ?_
    refine wa_iload_n (pc := 74) (y := mX2_edit) dX2_edit_74 rfl ?_
    refine wa_aloadV (pc := 75) (y := mX2_edit) dX2_edit_75 rfl (by first | exact rf_s _ | exact rf_n | exact rf_q _) ?_
    refine wa_iload (pc := 77) (y := mX2_edit) dX2_edit_77 rfl ?_
    refine wa_iconst (pc := 79) (y := mX2_edit) (Int32.ofNat 1) dX2_edit_79 rfl ?_
    first | with_reducible refine wa_iaddN (pc := 80) (y := mX2_edit) dX2_edit_80 ?_ | refine wa_iadd (pc := 80) (y := mX2_edit) dX2_edit_80 ?_
    refine wa_bipush (pc := 81) (y := mX2_edit) (Int32.ofNat 11) dX2_edit_81 rfl ?_
    refine wa_min (pc := 83) dX2_edit_83 q2164 q348 q94 q349 (Nat.le_of_ble_eq_true rfl) (by omega) ?_
    rw [iN_m11 (by omega)]
    refine wf_iaload dX2_edit_86 (by assumption) (by omega) (by (repeat (first | exact updF_self _ _ _ _ | (apply updF_i; · decide) | (apply updF_a; · first | assumption | (apply Ne.symm; assumption) | omega) | (apply newF_a; · first | assumption | (apply Ne.symm; assumption) | omega) | exact newL_self (by rfl) | exact newF_self (by rfl) | (apply cpyF_a; · first | assumption | (apply Ne.symm; assumption) | omega))) <;> first | assumption | rfl) ?_
    refine wa_callV (pc := 87) (s_X2_holds (d := d - 1) (k := p + 1) (by omega) hG S hc (by omega) hne (by omega)) dX2_edit_87 okX2_holds q1940 q1942 qs15 (sF_at (by assumption)) rfl rfl rfl (Nat.le_of_ble_eq_true rfl) (Nat.le_of_ble_eq_true rfl) (by omega) ?_
    rintro _ _ - - ⟨h3, F3, ns3, ks3, rfl, rfl, fr3, cst3, S3⟩
    refine aft_v (pc2 := 90) ?_ rfl
    rw [hhad.1, ← hG1]
    rw [hhad.2, ← hR] at S3
    have h98 := ed_98 (v6 := .ref arr) (v7 := .ref key) (b := true) (ns := ns3) (ks := ks3) hd hI hp hc (fr.opT2 fr3) (cst.trans cst3) (by omega) (S3.mono fun b _ hb => hb.elim (fun q => q) (fun q => Or.inr (Nat.le_trans fr.1.1 q))) to
    refine wa_if_eq (pc := 90) 97 dX2_edit_90 rfl (fun hb90 => ?_) (fun hb90 => ?_)
    · have hg := bI_0.mp hb90
      refine wa_iconst (pc := 97) (y := mX2_edit) (Int32.ofNat 0) dX2_edit_97 rfl ?_
      rw [hg] at h98; exact h98
    · have hg := bI_n0 hb90
      refine wa_iconst (pc := 93) (y := mX2_edit) (Int32.ofNat 1) dX2_edit_93 rfl ?_
      refine wa_goto (pc := 94) (y := mX2_edit) 98 dX2_edit_94 rfl ?_
      rw [hg] at h98; exact h98
theorem s_X2_edit (hd : 20 ≤ d) (hG : StG G) (hI : Inv f) (hH : HmI f) (hc : c < 12) (S : ShowR G h F O s A f g) (hO : ∀ b, O b → b < h.1) (T : TldO h F t o) : MA G d mX2_edit [.ref s, .int v, .int (Int32.ofNat c), va_rf t, .int (bI b)] (sF h F) (EdtQ G s A f g c v o b O h F) := by
  have h12 := hI.1
  have h60 := hI.2.1
  have S_is := S.is
  have to : t = none ↔ o = none := by
    rcases T with ⟨rfl, rfl⟩ | ⟨a, e, rfl, rfl, -⟩ <;> simp
  have key : ∀ tv : Value, tv = va_rf t → WA G d mX2_edit 0 [.ref s, .int v, .int (Int32.ofNat c), tv, .int (bI b), .retAddr 0, .retAddr 0, .retAddr 0, .retAddr 0, .retAddr 0] [] (sF h F) (EdtQ G s A f g c v o b O h F) := by
    intro tv htv
    subst htv
    refine wa_aloadV_n (pc := 0) (y := mX2_edit) dX2_edit_0 rfl (by first | exact rf_s _ | exact rf_n | exact rf_q _) ?_
    refine wa_iload_n (pc := 1) (y := mX2_edit) dX2_edit_1 rfl ?_
    refine wa_callV (pc := 2) (s_X2_index (d := d - 1) (v := v) (by omega) S) dX2_edit_2 okX2_index q1876 q1830 q1831 (sF_at (by assumption)) rfl rfl rfl (Nat.le_of_ble_eq_true rfl) (Nat.le_of_ble_eq_true rfl) (by omega) ?_
    rintro r h' - - (⟨p, hp, rfl, rfl⟩ | ⟨e, Q⟩)
    rotate_left
    · exact Q.after ⟨_, rfl⟩ rfl fun h2 F2 q fr cst iq => Or.inl ⟨e, h2, F2, q, rfl, rfl, fr, cst, iq⟩
    have hpl := (pl_some hp).1
    have hfp := (pl_some hp).2
    obtain ⟨a, ha⟩ := S.cu hpl
    obtain ⟨m, m1, m2, hm⟩ := S.num ha
    have hvm : v = Int32.ofNat m := hfp.symm.trans hm
    refine aft_v (pc2 := 5) ?_ rfl
    refine wa_istore (pc := 5) (y := mX2_edit) dX2_edit_5 (Nat.le_of_ble_eq_true rfl) (by first | rfl | (simp [okst, rf_cat] <;> assumption)) ?_
    simp only [List.set_cons_zero, List.set_cons_succ]
    refine wa_aloadV_n (pc := 7) (y := mX2_edit) dX2_edit_7 rfl (by first | exact rf_s _ | exact rf_n | exact rf_q _) ?_
    refine wa_iload_n (pc := 8) (y := mX2_edit) dX2_edit_8 rfl ?_
    refine wa_callV (pc := 9) (s_X2_levels (d := d - 1) (by omega) S hc) dX2_edit_9 okX2_levels q2146 q2147 q2148 (sF_at (by assumption)) rfl rfl rfl (Nat.le_of_ble_eq_true rfl) (Nat.le_of_ble_eq_true rfl) (by omega) ?_
    rintro _ _ - - ⟨h2, F2, rfl, rfl, fr2, cst2, ia, hv⟩
    refine aft_v (pc2 := 12) ?_ rfl
    have S2 := S.rd fr2; have S2_is := S2.is; have S2_0 := S2.f0; have S2_1 := S2.f1; have S2_2 := S2.f2; have S2_3 := S2.f3; have S2_4 := S2.f4; have S2_5 := S2.f5; have S2_6 := S2.f6; have S2_7 := S2.f7; have S2_h := S2.hm; have S2_c := S2.cl.1; have S2_l := S2.fl.1; have S2_m := S2.im.1
    have i9 := S2_is.new (k2 := 4) (l2 := 2); have n9 : s ≠ h2.1 := Nat.ne_of_lt S2_is.lt
    refine wa_astoreV (pc := 12) (y := mX2_edit) dX2_edit_12 (Nat.le_of_ble_eq_true rfl) (by first | rfl | (simp [okst, rf_cat] <;> assumption)) (by first | exact rf_s _ | exact rf_n | exact rf_q _) ?_
    simp only [List.set_cons_zero, List.set_cons_succ]
    refine wf_new (k := 4) (l := 2) [.int 0, .int 0] tyX5 dX2_edit_14 rfl q414 q415 q98 tyX5_ok rfl rfl ?_
    refine wa_dup (pc := 17) (y := mX2_edit) dX2_edit_17 (by first | rfl | exact rf_cat _) ?_
    refine wa_iload_n (pc := 18) (y := mX2_edit) dX2_edit_18 rfl ?_
    refine wa_iload_n (pc := 19) (y := mX2_edit) dX2_edit_19 rfl ?_
    refine wa_callI (pc := 20) (s_X5_init (d := d - 1) (q := h2.1) (x := v) (z := Int32.ofNat c) (by omega) (Is.self (h := h2))) dX2_edit_20 okX5_init rfl rfl rfl q431 q432 rfl rfl (Nat.le_of_ble_eq_true rfl) (Nat.le_of_ble_eq_true rfl) (by omega) ?_
    rintro _ _ - - ⟨rfl, rfl⟩
    refine aft_0 (pc2 := 23) ?_ rfl
    generalize hF5 : updF _ _ _ _ = F5
    have fr6 : Fr NoP h2 F2 (hNew h2 4 2) F5 := by rw [← hF5]; exact ((Fr.newT Fr.refl).updT (Or.inr (Nat.le_refl _))).updT (Or.inr (Nat.le_refl _))
    have K : KeyAt (hNew h2 4 2) F5 h2.1 (12 * m + c) := by rw [← hF5]; exact ⟨Is.self, by rw [show (12 * m + c) / 12 = m by omega, ← hvm]; exact updF_i (by decide) (updF_self _ _ _ _), by rw [show (12 * m + c) % 12 = c by omega]; exact updF_self _ _ _ _, by omega⟩
    have S5 := S2.rd fr6
    have S5_is := S5.is; have S5_0 := S5.f0; have S5_1 := S5.f1; have S5_2 := S5.f2; have S5_3 := S5.f3; have S5_4 := S5.f4; have S5_5 := S5.f5; have S5_6 := S5.f6; have S5_7 := S5.f7; have S5_h := S5.hm; have S5_c := S5.cl.1; have S5_l := S5.fl.1; have S5_m := S5.im.1
    have hni := S5.ni
    have fr7 : Fr NoP h F (hNew h2 4 2) F5 := fr2.trans fr6 fun _ _ q => q
    have cst7 : Cst 160 h (hNew h2 4 2) := (cst2.trans (show Cst 1 h2 (hNew h2 4 2) from ⟨Nat.le_refl _, by show h2.2.1 + 2 ≤ h2.2.1 + 4; omega⟩)).mono (by omega)
    have ia5 : Is (hNew h2 4 2) h.1 32 12 := fr6.is ia
    have hv5 : ∀ j, j < 12 → F5 h.1 j = .int (if j < u (f 0) then lvN f c (j + 1) else 0) := fun j hj => (fr6.at ia.lt (fun q => q) j).trans (hv j hj)
    refine wa_astoreV (pc := 23) (y := mX2_edit) dX2_edit_23 (Nat.le_of_ble_eq_true rfl) (by first | rfl | (simp [okst, rf_cat] <;> assumption)) (by first | exact rf_s _ | exact rf_n | exact rf_q _) ?_
    simp only [List.set_cons_zero, List.set_cons_succ]
    refine wa_aloadV_n (pc := 25) (y := mX2_edit) dX2_edit_25 rfl (by first | exact rf_s _ | exact rf_n | exact rf_q _) ?_
    refine wf_get (k := 1) (l := 8) 1 dX2_edit_26 (by assumption) rfl q357 (Or.inl rfl) (Nat.le_of_ble_eq_true rfl) (Nat.le_of_ble_eq_true rfl) (by (repeat (first | exact updF_self _ _ _ _ | (apply updF_i; · decide) | (apply updF_a; · first | assumption | (apply Ne.symm; assumption) | omega) | (apply newF_a; · first | assumption | (apply Ne.symm; assumption) | omega) | exact newL_self (by rfl) | exact newF_self (by rfl) | (apply cpyF_a; · first | assumption | (apply Ne.symm; assumption) | omega))) <;> first | assumption | rfl) ?_
    refine wa_aloadV (pc := 29) (y := mX2_edit) dX2_edit_29 rfl (by first | exact rf_s _ | exact rf_n | exact rf_q _) ?_
    refine wa_callW (k := 12) (pc := 31) (owner := "java/util/HashMap") (s_J4_containsKey (d := d - 1) (by omega) S5.im K) dX2_edit_31 okJ4_containsKey rfl q2150 q2151 (hDc_code q2154 q2155) (by decide) q2153 q2154 (sF_at (by assumption)) rfl rfl rfl rfl (Nat.le_of_ble_eq_true rfl) (Nat.le_of_ble_eq_true rfl) (by omega) ?_
    rintro _ _ - - ⟨bt, rfl, rfl, hbt⟩
    refine aft_v (pc2 := 34) ?_ rfl
    have hbt2 : bt = (gv f (f (18 + 12 * p)) (Int32.ofNat c)).isSome := by
      rw [hm]
      cases e : gv f (Int32.ofNat m) (Int32.ofNat c) with
      | none => cases bt with | false => rfl | true => obtain ⟨p9, q1, q2⟩ := hbt.mp rfl; obtain ⟨i9, -, q3⟩ := S5.gv_at hc m2 q1 q2; rw [e] at q3; cases q3
      | some i => cases bt with | true => rfl | false => exact absurd (S5.gv_no hc m2 fun p9 q1 q2 => by have := hbt.mpr ⟨p9, q1, q2⟩; cases this) (by rw [e]; simp)
    rw [hbt2]
    have hfin : ∀ (h8 : AH) (F8 : Nat → Nat → Value) (ns8 : List Nat) (ks8 : Nat), Fr (OP O (hNew h2 4 2)) (hNew h2 4 2) F5 h8 F8 → Cst 1840 (hNew h2 4 2) h8 → F8 h.1 = F5 h.1 → ShowR G h8 F8 (fun b => O b ∨ (hNew h2 4 2).1 ≤ b) s (A.wm ns8 ks8) (edF f p c o) g → WA G d mX2_edit 64 [.ref s, .int v, .int (Int32.ofNat c), va_rf t, .int (bI b), .int (Int32.ofNat p), .ref h.1, .ref h2.1, .int (bI (gv f (f (18 + 12 * p)) (Int32.ofNat c)).isSome), .retAddr 0] [] (sF h8 F8) (EdtQ G s A f g c v o b O h F) := fun h8 F8 ns8 ks8 fr8 cst8 he8 S8 => ed_64 (ns := ns8) (ks := ks8) hd hG hI hH hp hc (fr7.op.opT fr8) (cst7.trans cst8) (by omega) (S8.mono fun b _ hb => hb.imp (fun q => q) (fun q => Nat.le_trans fr7.1.1 q)) to (ia5.ext fr8.1) (fun j hj => by rw [he8]; exact hv5 j hj)
    refine wa_istore (pc := 34) (y := mX2_edit) dX2_edit_34 (Nat.le_of_ble_eq_true rfl) (by first | rfl | (simp [okst, rf_cat] <;> assumption)) ?_
    simp only [List.set_cons_zero, List.set_cons_succ]
    refine wa_aloadV_n (pc := 36) (y := mX2_edit) dX2_edit_36 rfl (by first | exact rf_s _ | exact rf_n | exact rf_q _) ?_
    refine wa_ifnonnullV (pc := 37) 53 dX2_edit_37 rfl (by first | exact rf_s _ | exact rf_n | exact rf_q _) (fun a37 hb37 => ?_) (fun hb37 => ?_)
    · obtain ⟨e9, hto, hoo, TT⟩ : ∃ e, t = some a37 ∧ o = some e ∧ TldR h F a37 e.1 e.2 := by rcases T with ⟨e1, -⟩ | ⟨a, e, e1, e2, e3⟩; rw [e1] at hb37; cases hb37; rw [e1] at hb37; cases hb37; exact ⟨e, e1, e2, e3⟩
      subst hto
      refine wa_aloadV_n (pc := 53) (y := mX2_edit) dX2_edit_53 rfl (by first | exact rf_s _ | exact rf_n | exact rf_q _) ?_
      refine wf_get (k := 1) (l := 8) 1 dX2_edit_54 (by assumption) rfl q357 (Or.inl rfl) (Nat.le_of_ble_eq_true rfl) (Nat.le_of_ble_eq_true rfl) (by (repeat (first | exact updF_self _ _ _ _ | (apply updF_i; · decide) | (apply updF_a; · first | assumption | (apply Ne.symm; assumption) | omega) | (apply newF_a; · first | assumption | (apply Ne.symm; assumption) | omega) | exact newL_self (by rfl) | exact newF_self (by rfl) | (apply cpyF_a; · first | assumption | (apply Ne.symm; assumption) | omega))) <;> first | assumption | rfl) ?_
      refine wa_aloadV (pc := 57) (y := mX2_edit) dX2_edit_57 rfl (by first | exact rf_s _ | exact rf_n | exact rf_q _) ?_
      refine wa_aloadV_n (pc := 59) (y := mX2_edit) dX2_edit_59 rfl (by first | exact rf_s _ | exact rf_n | exact rf_q _) ?_
      refine wa_callW (k := 12) (pc := 60) (owner := "java/util/HashMap") (s_J4_put (d := d - 1) (by omega) hG S5.im S5.tk (by omega) K) dX2_edit_60 okJ4_put rfl q1962 q1963 (hDc_code q1966 q1967) (by decide) q1965 q1966 (sF_at (by assumption)) rfl rfl rfl rfl (Nat.le_of_ble_eq_true rfl) (Nat.le_of_ble_eq_true rfl) (by omega) ?_
      rintro r h' - - Q
      obtain ⟨h8, F8, ns8, ks8, w, rfl, hw, rfl, fr8, cst8, S8⟩ := S5.putE hc m2 (by omega) (TT.fr fr7 (fun _ _ q => q)) Q
      refine aft_v (pc2 := 63) ?_ rfl
      refine wa_pop (pc := 63) (y := mX2_edit) dX2_edit_63 hw ?_
      first | exact hfin h8 F8 ns8 ks8 fr8 (cst8.mono (by omega)) (fr8.2 h.1 ia5.lt (fun q => absurd (hO _ q.1) (Nat.lt_irrefl _))) (by unfold edF; rw [hoo, hm, ← hvm]; rw [← hvm] at S8; exact S8) | exact hfin h8 F8 ns8 ks8 fr8 (cst8.mono (by omega)) (fr8.2 h.1 ia5.lt (fun q => absurd (hO _ q.1) (Nat.lt_irrefl _))) (by unfold edF; rw [ho, hm]; exact S8)
    · have ho : o = none := to.mp hb37
      refine wa_aloadV_n (pc := 40) (y := mX2_edit) dX2_edit_40 rfl (by first | exact rf_s _ | exact rf_n | exact rf_q _) ?_
      refine wf_get (k := 1) (l := 8) 1 dX2_edit_41 (by assumption) rfl q357 (Or.inl rfl) (Nat.le_of_ble_eq_true rfl) (Nat.le_of_ble_eq_true rfl) (by (repeat (first | exact updF_self _ _ _ _ | (apply updF_i; · decide) | (apply updF_a; · first | assumption | (apply Ne.symm; assumption) | omega) | (apply newF_a; · first | assumption | (apply Ne.symm; assumption) | omega) | exact newL_self (by rfl) | exact newF_self (by rfl) | (apply cpyF_a; · first | assumption | (apply Ne.symm; assumption) | omega))) <;> first | assumption | rfl) ?_
      refine wa_aloadV (pc := 44) (y := mX2_edit) dX2_edit_44 rfl (by first | exact rf_s _ | exact rf_n | exact rf_q _) ?_
      refine wa_callW (k := 12) (pc := 46) (owner := "java/util/HashMap") (s_J4_remove (d := d - 1) (by omega) hG S5.im S5.tk (by omega) K) dX2_edit_46 okJ4_remove rfl q2157 q2158 (hDc_code q2161 q2162) (by decide) q2160 q2161 (sF_at (by assumption)) rfl rfl rfl rfl (Nat.le_of_ble_eq_true rfl) (Nat.le_of_ble_eq_true rfl) (by omega) ?_
      rintro r h' - - Q
      have hnoF := Q
      obtain ⟨h8, F8, ns8, ks8, w, rfl, hw, rfl, fr8, cst8, S8⟩ := S5.remE (c := c) (n := m) hc m2 Q
      refine aft_v (pc2 := 49) ?_ rfl
      refine wa_pop (pc := 49) (y := mX2_edit) dX2_edit_49 hw ?_
      refine wa_goto (pc := 50) (y := mX2_edit) 64 dX2_edit_50 rfl ?_
      first | exact hfin h8 F8 ns8 ks8 fr8 (cst8.mono (by omega)) (fr8.2 h.1 ia5.lt (fun q => absurd (hO _ q.1) (Nat.lt_irrefl _))) (by unfold edF; rw [hoo, hm, ← hvm]; rw [← hvm] at S8; exact S8) | exact hfin h8 F8 ns8 ks8 fr8 (cst8.mono (by omega)) (fr8.2 h.1 ia5.lt (fun q => absurd (hO _ q.1) (Nat.lt_irrefl _))) (by unfold edF; rw [ho, hm]; exact S8)
  cases t with
  | none => exact key .null rfl
  | some a => exact key (.ref a) rfl
end EDIT3
