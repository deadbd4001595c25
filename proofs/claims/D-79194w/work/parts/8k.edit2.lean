/-! ===== Show.edit ===== -/
section EDIT2
variable {G : GG} {d n : Nat} {h h2 h3 : AH} {F F2 F3 : Nat → Nat → Value} {s c k i j p q a : Nat} {A : SA} {f g : Nat → Int32} {O P : Nat → Prop} {x z v had : Int32} {t : Option Nat} {o : Option (Int32 × Int32)} {b : Bool}
/-- behind the changes: the refusals -/
theorem ed_98 {N : Nat} {v6 v7 : Value} {ns : List Nat} {ks : Nat} (hd : 20 ≤ d) (hI : Inv f) (hp : pl f v = some p) (hc : c < 12) (fr : Fr (OP O h) h F h2 F2) (cst : Cst N h h2) (hN : N ≤ 4490) (S : ShowR G h2 F2 (fun b => O b ∨ h.1 ≤ b) s (A.wm ns ks) (edR f p c o b) g) (to : t = none ↔ o = none) :
    WA G d mX2_edit 98 [.ref s, .int v, .int (Int32.ofNat c), va_rf t, .int (bI b), .int (Int32.ofNat p), v6, v7, .int (bI (gv f (f (18 + 12 * p)) (Int32.ofNat c)).isSome), .retAddr 0] [.int (bI (edG f p c o b))] (sF h2 F2) (EdtQ G s A f g c v o b O h F) := by
  have h12 := hI.1
  have h60 := hI.2.1
  have hpl := (pl_some hp).1
  have hlo : ∀ j, j < 162 → j ≠ 1 → edR f p c o b j = f j := fun j h1 h2 => edR_lo h1 h2
  have h0 : edR f p c o b 0 = f 0 := hlo 0 (by decide) (by decide)
  have hn1 := edR_1 (p := p) (c := c) (o := o) (b := b) h60
  have S_is := S.is; have S_0 := S.f0; have S_1 := S.f1; have S_2 := S.f2; have S_3 := S.f3; have S_4 := S.f4; have S_5 := S.f5; have S_6 := S.f6; have S_7 := S.f7; have S_h := S.hm; have S_c := S.cl.1; have S_l := S.fl.1; have S_m := S.im.1
  have hni := S.ni
  have hnc := S.nc
  rw [h0] at hnc
  obtain ⟨a, ha⟩ := S.cu (k := p) (by rw [h0]; exact hpl)
  have C := S.cue p a ha
  have c1 := C.1
  have c3 := C.2.2.2.2.1
  have c5 := C.2.2.2.2.2.2.2.2.2.2.2.2
  rw [hlo (18 + 12 * p + 3) (by omega) (by omega)] at c3 c5
  have hx : WA G d mX2_edit 149 [.ref s, .int v, .int (Int32.ofNat c), va_rf t, .int (bI b), .int (Int32.ofNat p), v6, v7, .int (bI (gv f (f (18 + 12 * p)) (Int32.ofNat c)).isSome), .int (bI (edG f p c o b))] [.int (Int32.ofNat 1), .int (bI (decide (f (18 + 12 * p + 3) = 1) || (edG f p c o b && decide (f (18 + 12 * (p + 1) + 3) = 1))))] (sF h2 F2) (EdtQ G s A f g c v o b O h F) := by
    by_cases r1 : f (18 + 12 * p + 3) = 1 ∨ edG f p c o b = true ∧ f (18 + 12 * (p + 1) + 3) = 1
    · have hC : edC f p c o b = 1 := if_pos r1
      have hb1 : (decide (f (18 + 12 * p + 3) = 1) || (edG f p c o b && decide (f (18 + 12 * (p + 1) + 3) = 1))) = true := by rcases r1 with e | ⟨e, e2⟩ <;> simp [*]
      rw [hb1]
      refine wa_callSN (pc := 149) (s_X1_refuse (d := d - 1) (b := true) (z := Int32.ofNat 1) (by omega)) dX2_edit_149 okX1_refuse rfl q1968 q1969 rfl rfl (Nat.le_of_ble_eq_true rfl) (Nat.le_of_ble_eq_true rfl) (by omega) ?_
      rintro r h' - - (⟨hb, -, -⟩ | ⟨-, Q⟩)
      · cases hb
      have Q2 := Q.rfm fr cst
      obtain ⟨h3, F3, q, rfl, rfl, w1, w2, w3, w4, w5⟩ := Q2
      exact wax_out (sF_at w3) rfl (fun z hz => by cases hz) (Or.inr ⟨p, hp, Or.inr ⟨by omega, h3, F3, q, rfl, rfl, w1, w2.mono (by omega), w3, by rw [hC]; exact w4, w5⟩⟩)
    · have hb1 : (decide (f (18 + 12 * p + 3) = 1) || (edG f p c o b && decide (f (18 + 12 * (p + 1) + 3) = 1))) = false := by
        have := not_or.mp r1
        simp [this.1]
        intro e
        simpa [e] using this.2
      rw [hb1]
      by_cases r2 : 60 < u (edR f p c o b 1)
      · have hC : edC f p c o b = 2 := (if_neg r1).trans (if_pos r2)
        refine wa_callSN (pc := 149) (s_X1_refuse (d := d - 1) (b := false) (z := Int32.ofNat 1) (by omega)) dX2_edit_149 okX1_refuse rfl q1968 q1969 rfl rfl (Nat.le_of_ble_eq_true rfl) (Nat.le_of_ble_eq_true rfl) (by omega) ?_
        rintro r h' - - (⟨-, rfl, rfl⟩ | ⟨hb, -⟩)
        rotate_left
        · cases hb
        refine aft_0 (pc2 := 152) ?_ rfl
        refine wa_aloadV_n (pc := 152) (y := mX2_edit) dX2_edit_152 rfl (by first | exact rf_s _ | exact rf_n | exact rf_q _) ?_
        refine wf_get (k := 1) (l := 8) 1 dX2_edit_153 (by assumption) rfl q357 (Or.inl rfl) (Nat.le_of_ble_eq_true rfl) (Nat.le_of_ble_eq_true rfl) (by (repeat (first | exact updF_self _ _ _ _ | (apply updF_i; · decide) | (apply updF_a; · first | assumption | (apply Ne.symm; assumption) | omega) | (apply newF_a; · first | assumption | (apply Ne.symm; assumption) | omega) | exact newL_self (by rfl) | exact newF_self (by rfl) | (apply cpyF_a; · first | assumption | (apply Ne.symm; assumption) | omega))) <;> first | assumption | rfl) ?_
        refine wa_callW (k := 12) (pc := 156) (owner := "java/util/HashMap") (s_J4_size (d := d - 1) S.im) dX2_edit_156 okJ4_size rfl q1989 q1990 (hDc_code q1242 q1244) (by decide) q1992 q1242 (sF_at (by assumption)) rfl rfl rfl rfl (Nat.le_of_ble_eq_true rfl) (Nat.le_of_ble_eq_true rfl) (by omega) ?_
        rintro _ _ - - ⟨rfl, rfl⟩
        refine aft_v (pc2 := 159) ?_ rfl
        refine wa_bipush (pc := 159) (y := mX2_edit) (Int32.ofNat 60) dX2_edit_159 rfl ?_
        refine wa_icmp_le (pc := 161) 168 dX2_edit_161 rfl (fun hb161 => absurd ((iN_le (by omega) (by omega)).mp hb161) (by omega)) (fun hb161 => ?_)
        refine wa_iconst (pc := 164) (y := mX2_edit) (Int32.ofNat 1) dX2_edit_164 rfl ?_
        refine wa_goto (pc := 165) (y := mX2_edit) 169 dX2_edit_165 rfl ?_
        refine wa_iconst (pc := 169) (y := mX2_edit) (Int32.ofNat 2) dX2_edit_169 rfl ?_
        refine wa_callSN (pc := 170) (s_X1_refuse (d := d - 1) (b := true) (z := Int32.ofNat 2) (by omega)) dX2_edit_170 okX1_refuse rfl q1968 q1969 rfl rfl (Nat.le_of_ble_eq_true rfl) (Nat.le_of_ble_eq_true rfl) (by omega) ?_
        rintro r h' - - (⟨hb, -, -⟩ | ⟨-, Q⟩)
        · cases hb
        have Q2 := Q.rfm fr cst
        obtain ⟨h3, F3, q, rfl, rfl, w1, w2, w3, w4, w5⟩ := Q2
        exact wax_out (sF_at w3) rfl (fun z hz => by cases hz) (Or.inr ⟨p, hp, Or.inr ⟨by omega, h3, F3, q, rfl, rfl, w1, w2.mono (by omega), w3, by rw [hC]; exact w4, w5⟩⟩)
      · have h3 : WA G d mX2_edit 188 [.ref s, .int v, .int (Int32.ofNat c), va_rf t, .int (bI b), .int (Int32.ofNat p), v6, v7, .int (bI (gv f (f (18 + 12 * p)) (Int32.ofNat c)).isSome), .int (bI (edG f p c o b))] [.int (Int32.ofNat 3), .int (bI (decide (o = none ∧ gv f (f (18 + 12 * p)) (Int32.ofNat c) = none)))] (sF h2 F2) (EdtQ G s A f g c v o b O h F) := by
          by_cases r3 : o = none ∧ gv f (f (18 + 12 * p)) (Int32.ofNat c) = none
          · have hC : edC f p c o b = 3 := (if_neg r1).trans ((if_neg r2).trans (if_pos r3))
            rw [decide_eq_true r3]
            refine wa_callSN (pc := 188) (s_X1_refuse (d := d - 1) (b := true) (z := Int32.ofNat 3) (by omega)) dX2_edit_188 okX1_refuse rfl q1968 q1969 rfl rfl (Nat.le_of_ble_eq_true rfl) (Nat.le_of_ble_eq_true rfl) (by omega) ?_
            rintro r h' - - (⟨hb, -, -⟩ | ⟨-, Q⟩)
            · cases hb
            have Q2 := Q.rfm fr cst
            obtain ⟨h3, F3, q, rfl, rfl, w1, w2, w3, w4, w5⟩ := Q2
            exact wax_out (sF_at w3) rfl (fun z hz => by cases hz) (Or.inr ⟨p, hp, Or.inr ⟨by omega, h3, F3, q, rfl, rfl, w1, w2.mono (by omega), w3, by rw [hC]; exact w4, w5⟩⟩)
          · have hC : edC f p c o b = 0 := (if_neg r1).trans ((if_neg r2).trans (if_neg r3))
            rw [decide_eq_false r3]
            refine wa_callSN (pc := 188) (s_X1_refuse (d := d - 1) (b := false) (z := Int32.ofNat 3) (by omega)) dX2_edit_188 okX1_refuse rfl q1968 q1969 rfl rfl (Nat.le_of_ble_eq_true rfl) (Nat.le_of_ble_eq_true rfl) (by omega) ?_
            rintro r h' - - (⟨-, rfl, rfl⟩ | ⟨hb, -⟩)
            rotate_left
            · cases hb
            refine aft_0 (pc2 := 191) ?_ rfl
            refine wa_return (pc := 191) (y := mX2_edit) dX2_edit_191 rfl (Or.inr ⟨p, hp, Or.inl ⟨hC, h2, F2, ns, ks, rfl, rfl, fr, cst.mono (by omega), S⟩⟩)
        refine wa_callSN (pc := 149) (s_X1_refuse (d := d - 1) (b := false) (z := Int32.ofNat 1) (by omega)) dX2_edit_149 okX1_refuse rfl q1968 q1969 rfl rfl (Nat.le_of_ble_eq_true rfl) (Nat.le_of_ble_eq_true rfl) (by omega) ?_
        rintro r h' - - (⟨-, rfl, rfl⟩ | ⟨hb, -⟩)
        rotate_left
        · cases hb
        refine aft_0 (pc2 := 152) ?_ rfl
        refine wa_aloadV_n (pc := 152) (y := mX2_edit) dX2_edit_152 rfl (by first | exact rf_s _ | exact rf_n | exact rf_q _) ?_
        refine wf_get (k := 1) (l := 8) 1 dX2_edit_153 (by assumption) rfl q357 (Or.inl rfl) (Nat.le_of_ble_eq_true rfl) (Nat.le_of_ble_eq_true rfl) (by (repeat (first | exact updF_self _ _ _ _ | (apply updF_i; · decide) | (apply updF_a; · first | assumption | (apply Ne.symm; assumption) | omega) | (apply newF_a; · first | assumption | (apply Ne.symm; assumption) | omega) | exact newL_self (by rfl) | exact newF_self (by rfl) | (apply cpyF_a; · first | assumption | (apply Ne.symm; assumption) | omega))) <;> first | assumption | rfl) ?_
        refine wa_callW (k := 12) (pc := 156) (owner := "java/util/HashMap") (s_J4_size (d := d - 1) S.im) dX2_edit_156 okJ4_size rfl q1989 q1990 (hDc_code q1242 q1244) (by decide) q1992 q1242 (sF_at (by assumption)) rfl rfl rfl rfl (Nat.le_of_ble_eq_true rfl) (Nat.le_of_ble_eq_true rfl) (by omega) ?_
        rintro _ _ - - ⟨rfl, rfl⟩
        refine aft_v (pc2 := 159) ?_ rfl
        refine wa_bipush (pc := 159) (y := mX2_edit) (Int32.ofNat 60) dX2_edit_159 rfl ?_
        refine wa_icmp_le (pc := 161) 168 dX2_edit_161 rfl (fun hb161 => ?_) (fun hb161 => absurd ((iN_le (by omega) (by omega)).mpr (by omega)) hb161)
        refine wa_iconst (pc := 168) (y := mX2_edit) (Int32.ofNat 0) dX2_edit_168 rfl ?_
        refine wa_iconst (pc := 169) (y := mX2_edit) (Int32.ofNat 2) dX2_edit_169 rfl ?_
        refine wa_callSN (pc := 170) (s_X1_refuse (d := d - 1) (b := false) (z := Int32.ofNat 2) (by omega)) dX2_edit_170 okX1_refuse rfl q1968 q1969 rfl rfl (Nat.le_of_ble_eq_true rfl) (Nat.le_of_ble_eq_true rfl) (by omega) ?_
        rintro r h' - - (⟨-, rfl, rfl⟩ | ⟨hb, -⟩)
        rotate_left
        · cases hb
        refine aft_0 (pc2 := 173) ?_ rfl
        refine wa_aloadV_n (pc := 173) (y := mX2_edit) dX2_edit_173 rfl (by first | exact rf_s _ | exact rf_n | exact rf_q _) ?_
        refine wa_ifnonnullV (pc := 174) 186 dX2_edit_174 rfl (by first | exact rf_s _ | exact rf_n | exact rf_q _) (fun a174 hb174 => ?_) (fun hb174 => ?_)
        · have ho : ¬ o = none := fun e => by rw [to.mpr e] at hb174; cases hb174
          refine wa_iconst (pc := 186) (y := mX2_edit) (Int32.ofNat 0) dX2_edit_186 rfl ?_
          refine wa_iconst (pc := 187) (y := mX2_edit) (Int32.ofNat 3) dX2_edit_187 rfl ?_
          first | (rw [decide_eq_false (fun e => ho e.1)] at h3; exact h3) | (rw [decide_eq_false (fun e => hg e.2)] at h3; exact h3) | (rw [decide_eq_true ⟨ho, hg⟩] at h3; exact h3)
        · have ho : o = none := to.mp hb174
          refine wa_iload (pc := 177) (y := mX2_edit) dX2_edit_177 rfl ?_
          refine wa_if_ne (pc := 179) 186 dX2_edit_179 rfl (fun hb179 => ?_) (fun hb179 => ?_)
          · have hg : ¬ gv f (f (18 + 12 * p)) (Int32.ofNat c) = none := fun e => by rw [e] at hb179; exact hb179 rfl
            refine wa_iconst (pc := 186) (y := mX2_edit) (Int32.ofNat 0) dX2_edit_186 rfl ?_
            refine wa_iconst (pc := 187) (y := mX2_edit) (Int32.ofNat 3) dX2_edit_187 rfl ?_
            first | (rw [decide_eq_false (fun e => ho e.1)] at h3; exact h3) | (rw [decide_eq_false (fun e => hg e.2)] at h3; exact h3) | (rw [decide_eq_true ⟨ho, hg⟩] at h3; exact h3)
          · have hg : gv f (f (18 + 12 * p)) (Int32.ofNat c) = none := by simpa using bI_0.mp hb179
            refine wa_iconst (pc := 182) (y := mX2_edit) (Int32.ofNat 1) dX2_edit_182 rfl ?_
            refine wa_goto (pc := 183) (y := mX2_edit) 187 dX2_edit_183 rfl ?_
            refine wa_iconst (pc := 187) (y := mX2_edit) (Int32.ofNat 3) dX2_edit_187 rfl ?_
            first | (rw [decide_eq_false (fun e => ho e.1)] at h3; exact h3) | (rw [decide_eq_false (fun e => hg e.2)] at h3; exact h3) | (rw [decide_eq_true ⟨ho, hg⟩] at h3; exact h3)
  have hG : edG f p c o b = true → p + 1 < u (f 0) := fun e => by
    unfold edG at e
    simp only [Bool.and_eq_true] at e
    have := (hlB_gv e.2).1
    rwa [edF_lo (by decide) (by decide)] at this
  cases hg : edG f p c o b with
  | false =>
    rw [hg] at hx
    refine wa_istore (pc := 98) (y := mX2_edit) dX2_edit_98 (Nat.le_of_ble_eq_true rfl) (by first | rfl | (simp [okst, rf_cat] <;> assumption)) ?_
    simp only [List.set_cons_zero, List.set_cons_succ]
    refine wa_aloadV_n (pc := 100) (y := mX2_edit) dX2_edit_100 rfl (by first | exact rf_s _ | exact rf_n | exact rf_q _) ?_
    refine wf_get (k := 1) (l := 8) 0 dX2_edit_101 (by assumption) rfl q355 (Or.inl rfl) (Nat.le_of_ble_eq_true rfl) (Nat.le_of_ble_eq_true rfl) (by (repeat (first | exact updF_self _ _ _ _ | (apply updF_i; · decide) | (apply updF_a; · first | assumption | (apply Ne.symm; assumption) | omega) | (apply newF_a; · first | assumption | (apply Ne.symm; assumption) | omega) | exact newL_self (by rfl) | exact newF_self (by rfl) | (apply cpyF_a; · first | assumption | (apply Ne.symm; assumption) | omega))) <;> first | assumption | rfl) ?_
    refine wa_iload (pc := 104) (y := mX2_edit) dX2_edit_104 rfl ?_
    refine wa_callV (pc := 106) (s_J2_get (d := d - 1) (by omega) S.cl ha) dX2_edit_106 okJ2_get q416 q417 q418 (sF_at (by assumption)) rfl rfl rfl (Nat.le_of_ble_eq_true rfl) (Nat.le_of_ble_eq_true rfl) (by omega) ?_
    rintro _ _ - - ⟨rfl, rfl⟩
    refine aft_v (pc2 := 109) ?_ rfl
    refine wa_castS (pc := 109) (y := mX2_edit) (k := 6) dX2_edit_109 (sF_at (by assumption)) rfl q430 ?_
    refine wf_getN (k := 6) (l := 6) 2 dX2_edit_112 (by assumption) rfl q1199 (Or.inl rfl) (Nat.le_of_ble_eq_true rfl) (Nat.le_of_ble_eq_true rfl) (by (repeat (first | exact updF_self _ _ _ _ | (apply updF_i; · decide) | (apply updF_a; · first | assumption | (apply Ne.symm; assumption) | omega) | (apply newF_a; · first | assumption | (apply Ne.symm; assumption) | omega) | exact newL_self (by rfl) | exact newF_self (by rfl) | (apply cpyF_a; · first | assumption | (apply Ne.symm; assumption) | omega))) <;> first | assumption | rfl) ?_
    refine wa_if_ne (pc := 115) 143 dX2_edit_115 rfl (fun hb115 => ?_) (fun hb115 => ?_)
    · have e1 : f (18 + 12 * p + 3) = 1 := c5.resolve_left hb115
      refine wa_iconst (pc := 143) (y := mX2_edit) (Int32.ofNat 1) dX2_edit_143 rfl ?_
      refine wa_goto (pc := 144) (y := mX2_edit) 148 dX2_edit_144 rfl ?_
      refine wa_iconst (pc := 148) (y := mX2_edit) (Int32.ofNat 1) dX2_edit_148 rfl ?_
      first | (simp only [e1, decide_true, Bool.true_or] at hx; exact hx) | (simp only [e1, decide_false, Bool.false_and, Bool.or_false] at hx; exact hx)
    · have e1 : ¬ f (18 + 12 * p + 3) = 1 := fun e => by rw [e] at hb115; exact absurd hb115 (by decide)
      refine wa_iload (pc := 118) (y := mX2_edit) dX2_edit_118 rfl ?_
      refine wa_if_eq (pc := 120) 147 dX2_edit_120 rfl (fun hb120 => ?_) (fun hb120 => absurd rfl hb120)
      refine wa_iconst (pc := 147) (y := mX2_edit) (Int32.ofNat 0) dX2_edit_147 rfl ?_
      refine wa_iconst (pc := 148) (y := mX2_edit) (Int32.ofNat 1) dX2_edit_148 rfl ?_
      first | (simp only [e1, decide_true, Bool.true_or] at hx; exact hx) | (simp only [e1, decide_false, Bool.false_and, Bool.or_false] at hx; exact hx)
  | true =>
    have hlt := hG hg
    rw [hg] at hx
    obtain ⟨a2, ha2⟩ := S.cu (k := p + 1) (by rw [h0]; exact hlt)
    have C2 := S.cue (p + 1) a2 ha2
    have d1 := C2.1
    have d3 := C2.2.2.2.2.1
    have d5 := C2.2.2.2.2.2.2.2.2.2.2.2.2
    rw [hlo (18 + 12 * (p + 1) + 3) (by omega) (by omega)] at d3 d5
    refine wa_istore (pc := 98) (y := mX2_edit) dX2_edit_98 (Nat.le_of_ble_eq_true rfl) (by first | rfl | (simp [okst, rf_cat] <;> assumption)) ?_
    simp only [List.set_cons_zero, List.set_cons_succ]
    refine wa_aloadV_n (pc := 100) (y := mX2_edit) dX2_edit_100 rfl (by first | exact rf_s _ | exact rf_n | exact rf_q _) ?_
    refine wf_get (k := 1) (l := 8) 0 dX2_edit_101 (by assumption) rfl q355 (Or.inl rfl) (Nat.le_of_ble_eq_true rfl) (Nat.le_of_ble_eq_true rfl) (by (repeat (first | exact updF_self _ _ _ _ | (apply updF_i; · decide) | (apply updF_a; · first | assumption | (apply Ne.symm; assumption) | omega) | (apply newF_a; · first | assumption | (apply Ne.symm; assumption) | omega) | exact newL_self (by rfl) | exact newF_self (by rfl) | (apply cpyF_a; · first | assumption | (apply Ne.symm; assumption) | omega))) <;> first | assumption | rfl) ?_
    refine wa_iload (pc := 104) (y := mX2_edit) dX2_edit_104 rfl ?_
    refine wa_callV (pc := 106) (s_J2_get (d := d - 1) (by omega) S.cl ha) dX2_edit_106 okJ2_get q416 q417 q418 (sF_at (by assumption)) rfl rfl rfl (Nat.le_of_ble_eq_true rfl) (Nat.le_of_ble_eq_true rfl) (by omega) ?_
    rintro _ _ - - ⟨rfl, rfl⟩
    refine aft_v (pc2 := 109) ?_ rfl
    refine wa_castS (pc := 109) (y := mX2_edit) (k := 6) dX2_edit_109 (sF_at (by assumption)) rfl q430 ?_
    refine wf_getN (k := 6) (l := 6) 2 dX2_edit_112 (by assumption) rfl q1199 (Or.inl rfl) (Nat.le_of_ble_eq_true rfl) (Nat.le_of_ble_eq_true rfl) (by (repeat (first | exact updF_self _ _ _ _ | (apply updF_i; · decide) | (apply updF_a; · first | assumption | (apply Ne.symm; assumption) | omega) | (apply newF_a; · first | assumption | (apply Ne.symm; assumption) | omega) | exact newL_self (by rfl) | exact newF_self (by rfl) | (apply cpyF_a; · first | assumption | (apply Ne.symm; assumption) | omega))) <;> first | assumption | rfl) ?_
    refine wa_if_ne (pc := 115) 143 dX2_edit_115 rfl (fun hb115 => ?_) (fun hb115 => ?_)
    · have e1 : f (18 + 12 * p + 3) = 1 := c5.resolve_left hb115
      refine wa_iconst (pc := 143) (y := mX2_edit) (Int32.ofNat 1) dX2_edit_143 rfl ?_
      refine wa_goto (pc := 144) (y := mX2_edit) 148 dX2_edit_144 rfl ?_
      refine wa_iconst (pc := 148) (y := mX2_edit) (Int32.ofNat 1) dX2_edit_148 rfl ?_
      first | (simp only [e1, decide_true, Bool.true_or] at hx; exact hx) | (simp only [e1, e2, decide_true, decide_false, Bool.true_and, Bool.or_false, Bool.false_or] at hx; exact hx)
    · have e1 : ¬ f (18 + 12 * p + 3) = 1 := fun e => by rw [e] at hb115; exact absurd hb115 (by decide)
      refine wa_iload (pc := 118) (y := mX2_edit) dX2_edit_118 rfl ?_
      refine wa_if_eq (pc := 120) 147 dX2_edit_120 rfl (fun hb120 => absurd hb120 (by decide)) (fun hb120 => ?_)
      refine wa_aloadV_n (pc := 123) (y := mX2_edit) dX2_edit_123 rfl (by first | exact rf_s _ | exact rf_n | exact rf_q _) ?_
      refine wf_get (k := 1) (l := 8) 0 dX2_edit_124 (by assumption) rfl q355 (Or.inl rfl) (Nat.le_of_ble_eq_true rfl) (Nat.le_of_ble_eq_true rfl) (by (repeat (first | exact updF_self _ _ _ _ | (apply updF_i; · decide) | (apply updF_a; · first | assumption | (apply Ne.symm; assumption) | omega) | (apply newF_a; · first | assumption | (apply Ne.symm; assumption) | omega) | exact newL_self (by rfl) | exact newF_self (by rfl) | (apply cpyF_a; · first | assumption | (apply Ne.symm; assumption) | omega))) <;> first | assumption | rfl) ?_
      refine wa_iload (pc := 127) (y := mX2_edit) dX2_edit_127 rfl ?_
      refine wa_iconst (pc := 129) (y := mX2_edit) (Int32.ofNat 1) dX2_edit_129 rfl ?_
      first | with_reducible refine wa_iaddN (pc := 130) (y := mX2_edit) dX2_edit_130 ?_ | refine wa_iadd (pc := 130) (y := mX2_edit) dX2_edit_130 ?_
      refine wa_callV (pc := 131) (s_J2_get (d := d - 1) (by omega) S.cl ha2) dX2_edit_131 okJ2_get q416 q417 q418 (sF_at (by assumption)) rfl rfl rfl (Nat.le_of_ble_eq_true rfl) (Nat.le_of_ble_eq_true rfl) (by omega) ?_
      rintro _ _ - - ⟨rfl, rfl⟩
      refine aft_v (pc2 := 134) ?_ rfl
      refine wa_castS (pc := 134) (y := mX2_edit) (k := 6) dX2_edit_134 (sF_at (by assumption)) rfl q430 ?_
      refine wf_getN (k := 6) (l := 6) 2 dX2_edit_137 (by assumption) rfl q1199 (Or.inl rfl) (Nat.le_of_ble_eq_true rfl) (Nat.le_of_ble_eq_true rfl) (by (repeat (first | exact updF_self _ _ _ _ | (apply updF_i; · decide) | (apply updF_a; · first | assumption | (apply Ne.symm; assumption) | omega) | (apply newF_a; · first | assumption | (apply Ne.symm; assumption) | omega) | exact newL_self (by rfl) | exact newF_self (by rfl) | (apply cpyF_a; · first | assumption | (apply Ne.symm; assumption) | omega))) <;> first | assumption | rfl) ?_
      refine wa_if_eq (pc := 140) 147 dX2_edit_140 rfl (fun hb140 => ?_) (fun hb140 => ?_)
      · have e2 : ¬ f (18 + 12 * (p + 1) + 3) = 1 := fun e => by rw [e] at hb140; exact absurd hb140 (by decide)
        refine wa_iconst (pc := 147) (y := mX2_edit) (Int32.ofNat 0) dX2_edit_147 rfl ?_
        refine wa_iconst (pc := 148) (y := mX2_edit) (Int32.ofNat 1) dX2_edit_148 rfl ?_
        first | (simp only [e1, decide_true, Bool.true_or] at hx; exact hx) | (simp only [e1, e2, decide_true, decide_false, Bool.true_and, Bool.or_false, Bool.false_or] at hx; exact hx)
      · have e2 : f (18 + 12 * (p + 1) + 3) = 1 := d5.resolve_left hb140
        refine wa_iconst (pc := 143) (y := mX2_edit) (Int32.ofNat 1) dX2_edit_143 rfl ?_
        refine wa_goto (pc := 144) (y := mX2_edit) 148 dX2_edit_144 rfl ?_
        refine wa_iconst (pc := 148) (y := mX2_edit) (Int32.ofNat 1) dX2_edit_148 rfl ?_
        first | (simp only [e1, decide_true, Bool.true_or] at hx; exact hx) | (simp only [e1, e2, decide_true, decide_false, Bool.true_and, Bool.or_false, Bool.false_or] at hx; exact hx)
end EDIT2
