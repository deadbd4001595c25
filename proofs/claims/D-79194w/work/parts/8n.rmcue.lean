/-! ===== removeCue ===== -/
/-- the state behind the removal; the levels that were had -/
def rmF (f : Nat → Int32) (p : Nat) : Nat → Int32 := rcF (rmg (f (18 + 12 * p)) (u (f 1)) f) p
def hvV (f : Nat → Int32) (p c : Nat) : Int32 := if p + 1 < u (f 0) then lvN f c (p + 2) else 0
def rmW (f : Nat → Int32) (p : Nat) (b : Bool) : Bool × (Nat → Int32) := if b then hdW (hvV f p) p 0 12 0 (rmF f p) else (false, rmF f p)
/-- the reason why it is refused, or 0 -/
def rmC (f : Nat → Int32) (p : Nat) (b : Bool) : Nat := if f (18 + 12 * p + 3) = 1 ∨ (rmW f p b).1 = true ∧ rmF f p (18 + 12 * p + 3) = 1 then 1 else if 60 < u ((rmW f p b).2 1) then 2 else 0
def RmcQ (G : GG) (s : Nat) (f g : Nat → Int32) (v : Int32) (b : Bool) (O : Nat → Prop) (h : AH) (F : Nat → Nat → Value) (r : RR) (h' : AH) : Prop :=
  pl f v = none ∧ ThQ 25 h F r h' ∨ ∃ p, pl f v = some p ∧ (rmC f p b = 0 ∧ (∃ (h2 : AH) (F2 : Nat → Nat → Value) (A2 : SA), r = .inl none ∧ h' = sF h2 F2 ∧ Fr (OP O h) h F h2 F2 ∧ Cst 22500 h h2 ∧ ShowR G h2 F2 (fun b => O b ∨ h.1 ≤ b) s A2 (rmW f p b).2 g) ∨ rmC f p b ≠ 0 ∧ RfmQ 22500 (Int32.ofNat (rmC f p b)) O h F r h')
section RMCUE
variable {G : GG} {d n : Nat} {h h1 h2 h3 : AH} {F F1 F2 F3 : Nat → Nat → Value} {s c k i j p q a m it : Nat} {A : SA} {f f1 g : Nat → Int32} {O P : Nat → Prop} {x z v had mc : Int32} {b : Bool}
theorem bI_or (x y : Bool) : bI x ||| bI y = bI (x || y) := by cases x <;> cases y <;> decide
theorem rmF_0 (hn : u (f 0) ≤ 12) : u (rmF f p 0) = u (f 0) - 1 := by
  unfold rmF
  rw [rcF_0 (by rw [rmg_lo (by decide) (by decide)]; exact hn), rmg_lo (by decide) (by decide)]
theorem rmF_1 (hn : u (f 0) ≤ 12) (h : u (f 1) ≤ 75) : u (rmF f p 1) ≤ u (f 1) := by
  unfold rmF
  rw [rcF_hi (by rw [rmg_lo (by decide) (by decide)]; exact hn) (by omega)]
  exact rmg_len h
theorem rmF_n {r : Nat} (hn : u (f 0) ≤ 12) (hr : r < 12) (hp : p + 1 < u (f 0)) : rmF f p (18 + 12 * p + r) = f (18 + 12 * (p + 1) + r) := by
  unfold rmF
  have e0 : rmg (f (18 + 12 * p)) (u (f 1)) f 0 = f 0 := rmg_lo (by decide) (by decide)
  rw [rcF_at hr (by rw [e0]; omega), if_neg (by omega), rmg_lo (by omega) (by omega)]
theorem rmF_h (hn : u (f 0) ≤ 12) (hc : c < 12) : rmF f p (6 + c) = f (6 + c) := by
  unfold rmF
  rw [rcF_hi (by rw [rmg_lo (by decide) (by decide)]; exact hn) (by omega), rmg_lo (by omega) (by omega)]
theorem hvV_ne (hH : HmI f) (hc : c < 12) : hvV f p c ≠ -1 := by
  unfold hvV
  split
  · exact lvN_ne hH hc _
  · decide
/-- behind the changes -/
theorem rc_125 {N : Nat} {v4 v7 : Value} (hd : 20 ≤ d) (hI : Inv f) (hp : pl f v = some p) (fr : Fr (OP O h) h F h2 F2) (cst : Cst N h h2) (hN : N ≤ 22490) (S : ShowR G h2 F2 (fun b => O b ∨ h.1 ≤ b) s A (rmW f p b).2 g) (hany : (rmW f p b).1 = true → p < u (rmF f p 0)) (hlo : ∀ j, j < 162 → j ≠ 1 → (rmW f p b).2 j = rmF f p j) :
    WA G d mX2_removeCue 125 [.ref s, .int v, .int (bI b), .int (Int32.ofNat p), v4, .int (f (18 + 12 * p + 3)), .int (bI (rmW f p b).1), v7] [] (sF h2 F2) (RmcQ G s f g v b O h F) := by
  have h12 := hI.1
  have h60 := hI.2.1
  have hpl := (pl_some hp).1
  have S_is := S.is; have S_0 := S.f0; have S_1 := S.f1; have S_2 := S.f2; have S_3 := S.f3; have S_4 := S.f4; have S_5 := S.f5; have S_6 := S.f6; have S_7 := S.f7; have S_h := S.hm; have S_c := S.cl.1; have S_l := S.fl.1; have S_m := S.im.1
  have hni := S.ni
  have hni2 := S.ni2
  have hx : WA G d mX2_removeCue 158 [.ref s, .int v, .int (bI b), .int (Int32.ofNat p), v4, .int (f (18 + 12 * p + 3)), .int (bI (rmW f p b).1), v7] [.int (Int32.ofNat 1), .int (bI (decide (f (18 + 12 * p + 3) = 1) || ((rmW f p b).1 && decide (rmF f p (18 + 12 * p + 3) = 1))))] (sF h2 F2) (RmcQ G s f g v b O h F) := by
    by_cases r1 : f (18 + 12 * p + 3) = 1 ∨ (rmW f p b).1 = true ∧ rmF f p (18 + 12 * p + 3) = 1
    · have hC : rmC f p b = 1 := if_pos r1
      have hb1 : (decide (f (18 + 12 * p + 3) = 1) || ((rmW f p b).1 && decide (rmF f p (18 + 12 * p + 3) = 1))) = true := by rcases r1 with e | ⟨e, e2⟩ <;> simp [*]
      rw [hb1]
      refine wa_callSN (pc := 158) (s_X1_refuse (d := d - 1) (b := true) (z := Int32.ofNat 1) (by omega)) dX2_removeCue_158 okX1_refuse rfl q1968 q1969 rfl rfl (Nat.le_of_ble_eq_true rfl) (Nat.le_of_ble_eq_true rfl) (by omega) ?_
      rintro r h' - - (⟨hb, -, -⟩ | ⟨-, Q⟩)
      · cases hb
      have Q2 := Q.rfm fr cst
      obtain ⟨h3, F3, q, rfl, rfl, w1, w2, w3, w4, w5⟩ := Q2
      exact wax_out (sF_at w3) rfl (fun z hz => by cases hz) (Or.inr ⟨p, hp, Or.inr ⟨by omega, h3, F3, q, rfl, rfl, w1, w2.mono (by omega), w3, by rw [hC]; exact w4, w5⟩⟩)
    · have hb1 : (decide (f (18 + 12 * p + 3) = 1) || ((rmW f p b).1 && decide (rmF f p (18 + 12 * p + 3) = 1))) = false := by
        have := not_or.mp r1
        simp [this.1]
        intro e
        simpa [e] using this.2
      rw [hb1]
      by_cases r2 : 60 < u ((rmW f p b).2 1)
      · have hC : rmC f p b = 2 := (if_neg r1).trans (if_pos r2)
        refine wa_callSN (pc := 158) (s_X1_refuse (d := d - 1) (b := false) (z := Int32.ofNat 1) (by omega)) dX2_removeCue_158 okX1_refuse rfl q1968 q1969 rfl rfl (Nat.le_of_ble_eq_true rfl) (Nat.le_of_ble_eq_true rfl) (by omega) ?_
        rintro r h' - - (⟨-, rfl, rfl⟩ | ⟨hb, -⟩)
        rotate_left
        · cases hb
        refine aft_0 (pc2 := 161) ?_ rfl
        refine wa_aloadV_n (pc := 161) (y := mX2_removeCue) dX2_removeCue_161 rfl (by first | exact rf_s _ | exact rf_n | exact rf_q _) ?_
        refine wf_get (k := 1) (l := 8) 1 dX2_removeCue_162 (by assumption) rfl q357 (Or.inl rfl) (Nat.le_of_ble_eq_true rfl) (Nat.le_of_ble_eq_true rfl) (by (repeat (first | exact updF_self _ _ _ _ | (apply updF_i; · decide) | (apply updF_a; · first | assumption | (apply Ne.symm; assumption) | omega) | (apply newF_a; · first | assumption | (apply Ne.symm; assumption) | omega) | exact newL_self (by rfl) | exact newF_self (by rfl) | (apply cpyF_a; · first | assumption | (apply Ne.symm; assumption) | omega))) <;> first | assumption | rfl) ?_
        refine wa_callW (k := 12) (pc := 165) (owner := "java/util/HashMap") (s_J4_size (d := d - 1) S.im) dX2_removeCue_165 okJ4_size rfl q1989 q1990 (hDc_code q1242 q1244) (by decide) q1992 q1242 (sF_at (by assumption)) rfl rfl rfl rfl (Nat.le_of_ble_eq_true rfl) (Nat.le_of_ble_eq_true rfl) (by omega) ?_
        rintro _ _ - - ⟨rfl, rfl⟩
        refine aft_v (pc2 := 168) ?_ rfl
        refine wa_bipush (pc := 168) (y := mX2_removeCue) (Int32.ofNat 60) dX2_removeCue_168 rfl ?_
        refine wa_icmp_le (pc := 170) 177 dX2_removeCue_170 rfl (fun hb170 => absurd ((iN_le (by omega) (by omega)).mp hb170) (by omega)) (fun hb170 => ?_)
        refine wa_iconst (pc := 173) (y := mX2_removeCue) (Int32.ofNat 1) dX2_removeCue_173 rfl ?_
        refine wa_goto (pc := 174) (y := mX2_removeCue) 178 dX2_removeCue_174 rfl ?_
        refine wa_iconst (pc := 178) (y := mX2_removeCue) (Int32.ofNat 2) dX2_removeCue_178 rfl ?_
        refine wa_callSN (pc := 179) (s_X1_refuse (d := d - 1) (b := true) (z := Int32.ofNat 2) (by omega)) dX2_removeCue_179 okX1_refuse rfl q1968 q1969 rfl rfl (Nat.le_of_ble_eq_true rfl) (Nat.le_of_ble_eq_true rfl) (by omega) ?_
        rintro r h' - - (⟨hb, -, -⟩ | ⟨-, Q⟩)
        · cases hb
        have Q2 := Q.rfm fr cst
        obtain ⟨h3, F3, q, rfl, rfl, w1, w2, w3, w4, w5⟩ := Q2
        exact wax_out (sF_at w3) rfl (fun z hz => by cases hz) (Or.inr ⟨p, hp, Or.inr ⟨by omega, h3, F3, q, rfl, rfl, w1, w2.mono (by omega), w3, by rw [hC]; exact w4, w5⟩⟩)
      · have hC : rmC f p b = 0 := (if_neg r1).trans (if_neg r2)
        refine wa_callSN (pc := 158) (s_X1_refuse (d := d - 1) (b := false) (z := Int32.ofNat 1) (by omega)) dX2_removeCue_158 okX1_refuse rfl q1968 q1969 rfl rfl (Nat.le_of_ble_eq_true rfl) (Nat.le_of_ble_eq_true rfl) (by omega) ?_
        rintro r h' - - (⟨-, rfl, rfl⟩ | ⟨hb, -⟩)
        rotate_left
        · cases hb
        refine aft_0 (pc2 := 161) ?_ rfl
        refine wa_aloadV_n (pc := 161) (y := mX2_removeCue) dX2_removeCue_161 rfl (by first | exact rf_s _ | exact rf_n | exact rf_q _) ?_
        refine wf_get (k := 1) (l := 8) 1 dX2_removeCue_162 (by assumption) rfl q357 (Or.inl rfl) (Nat.le_of_ble_eq_true rfl) (Nat.le_of_ble_eq_true rfl) (by (repeat (first | exact updF_self _ _ _ _ | (apply updF_i; · decide) | (apply updF_a; · first | assumption | (apply Ne.symm; assumption) | omega) | (apply newF_a; · first | assumption | (apply Ne.symm; assumption) | omega) | exact newL_self (by rfl) | exact newF_self (by rfl) | (apply cpyF_a; · first | assumption | (apply Ne.symm; assumption) | omega))) <;> first | assumption | rfl) ?_
        refine wa_callW (k := 12) (pc := 165) (owner := "java/util/HashMap") (s_J4_size (d := d - 1) S.im) dX2_removeCue_165 okJ4_size rfl q1989 q1990 (hDc_code q1242 q1244) (by decide) q1992 q1242 (sF_at (by assumption)) rfl rfl rfl rfl (Nat.le_of_ble_eq_true rfl) (Nat.le_of_ble_eq_true rfl) (by omega) ?_
        rintro _ _ - - ⟨rfl, rfl⟩
        refine aft_v (pc2 := 168) ?_ rfl
        refine wa_bipush (pc := 168) (y := mX2_removeCue) (Int32.ofNat 60) dX2_removeCue_168 rfl ?_
        refine wa_icmp_le (pc := 170) 177 dX2_removeCue_170 rfl (fun hb170 => ?_) (fun hb170 => absurd ((iN_le (by omega) (by omega)).mpr (by omega)) hb170)
        refine wa_iconst (pc := 177) (y := mX2_removeCue) (Int32.ofNat 0) dX2_removeCue_177 rfl ?_
        refine wa_iconst (pc := 178) (y := mX2_removeCue) (Int32.ofNat 2) dX2_removeCue_178 rfl ?_
        refine wa_callSN (pc := 179) (s_X1_refuse (d := d - 1) (b := false) (z := Int32.ofNat 2) (by omega)) dX2_removeCue_179 okX1_refuse rfl q1968 q1969 rfl rfl (Nat.le_of_ble_eq_true rfl) (Nat.le_of_ble_eq_true rfl) (by omega) ?_
        rintro r h' - - (⟨-, rfl, rfl⟩ | ⟨hb, -⟩)
        rotate_left
        · cases hb
        refine aft_0 (pc2 := 182) ?_ rfl
        refine wa_return (pc := 182) (y := mX2_removeCue) dX2_removeCue_182 rfl (Or.inr ⟨p, hp, Or.inl ⟨hC, h2, F2, A, rfl, rfl, fr, cst.mono (by omega), S⟩⟩)
  have hp01 := (hI.2.2.2.2.1 p hpl).2.2.2
  cases hg : (rmW f p b).1 with
  | false =>
    rw [hg] at hx
    refine wa_iload (pc := 125) (y := mX2_removeCue) dX2_removeCue_125 rfl ?_
    refine wa_if_ne (pc := 127) 152 dX2_removeCue_127 rfl (fun hb127 => ?_) (fun hb127 => ?_)
    · have e1 : f (18 + 12 * p + 3) = 1 := hp01.resolve_left hb127
      refine wa_iconst (pc := 152) (y := mX2_removeCue) (Int32.ofNat 1) dX2_removeCue_152 rfl ?_
      refine wa_goto (pc := 153) (y := mX2_removeCue) 157 dX2_removeCue_153 rfl ?_
      refine wa_iconst (pc := 157) (y := mX2_removeCue) (Int32.ofNat 1) dX2_removeCue_157 rfl ?_
      first | (simp only [e1, decide_true, Bool.true_or] at hx; rw [e1]; exact hx) | (simp only [e1, decide_false, Bool.false_and, Bool.or_false] at hx; exact hx)
    · have e1 : ¬ f (18 + 12 * p + 3) = 1 := fun e => by rw [e] at hb127; exact absurd hb127 (by decide)
      refine wa_iload (pc := 130) (y := mX2_removeCue) dX2_removeCue_130 rfl ?_
      refine wa_if_eq (pc := 132) 156 dX2_removeCue_132 rfl (fun hb132 => ?_) (fun hb132 => absurd rfl hb132)
      refine wa_iconst (pc := 156) (y := mX2_removeCue) (Int32.ofNat 0) dX2_removeCue_156 rfl ?_
      refine wa_iconst (pc := 157) (y := mX2_removeCue) (Int32.ofNat 1) dX2_removeCue_157 rfl ?_
      first | (simp only [e1, decide_true, Bool.true_or] at hx; rw [e1]; exact hx) | (simp only [e1, decide_false, Bool.false_and, Bool.or_false] at hx; exact hx)
  | true =>
    have hlt := hany hg
    rw [hg] at hx
    obtain ⟨a2, ha2⟩ := S.cu (k := p) (by rw [hlo 0 (by decide) (by decide)]; exact hlt)
    have C2 := S.cue p a2 ha2
    have d1 := C2.1
    have d3 := C2.2.2.2.2.1
    have d5 := C2.2.2.2.2.2.2.2.2.2.2.2.2
    rw [hlo (18 + 12 * p + 3) (by omega) (by omega)] at d3 d5
    refine wa_iload (pc := 125) (y := mX2_removeCue) dX2_removeCue_125 rfl ?_
    refine wa_if_ne (pc := 127) 152 dX2_removeCue_127 rfl (fun hb127 => ?_) (fun hb127 => ?_)
    · have e1 : f (18 + 12 * p + 3) = 1 := hp01.resolve_left hb127
      refine wa_iconst (pc := 152) (y := mX2_removeCue) (Int32.ofNat 1) dX2_removeCue_152 rfl ?_
      refine wa_goto (pc := 153) (y := mX2_removeCue) 157 dX2_removeCue_153 rfl ?_
      refine wa_iconst (pc := 157) (y := mX2_removeCue) (Int32.ofNat 1) dX2_removeCue_157 rfl ?_
      first | (simp only [e1, decide_true, Bool.true_or] at hx; rw [e1]; exact hx) | (simp only [e1, e2, decide_true, decide_false, Bool.true_and, Bool.or_false, Bool.false_or] at hx; exact hx)
    · have e1 : ¬ f (18 + 12 * p + 3) = 1 := fun e => by rw [e] at hb127; exact absurd hb127 (by decide)
      refine wa_iload (pc := 130) (y := mX2_removeCue) dX2_removeCue_130 rfl ?_
      refine wa_if_eq (pc := 132) 156 dX2_removeCue_132 rfl (fun hb132 => absurd hb132 (by decide)) (fun hb132 => ?_)
      refine wa_aloadV_n (pc := 135) (y := mX2_removeCue) dX2_removeCue_135 rfl (by first | exact rf_s _ | exact rf_n | exact rf_q _) ?_
      refine wf_get (k := 1) (l := 8) 0 dX2_removeCue_136 (by assumption) rfl q355 (Or.inl rfl) (Nat.le_of_ble_eq_true rfl) (Nat.le_of_ble_eq_true rfl) (by (repeat (first | exact updF_self _ _ _ _ | (apply updF_i; · decide) | (apply updF_a; · first | assumption | (apply Ne.symm; assumption) | omega) | (apply newF_a; · first | assumption | (apply Ne.symm; assumption) | omega) | exact newL_self (by rfl) | exact newF_self (by rfl) | (apply cpyF_a; · first | assumption | (apply Ne.symm; assumption) | omega))) <;> first | assumption | rfl) ?_
      refine wa_iload_n (pc := 139) (y := mX2_removeCue) dX2_removeCue_139 rfl ?_
      refine wa_callV (pc := 140) (s_J2_get (d := d - 1) (by omega) S.cl ha2) dX2_removeCue_140 okJ2_get q416 q417 q418 (sF_at (by assumption)) rfl rfl rfl (Nat.le_of_ble_eq_true rfl) (Nat.le_of_ble_eq_true rfl) (by omega) ?_
      rintro _ _ - - ⟨rfl, rfl⟩
      refine aft_v (pc2 := 143) ?_ rfl
      refine wa_castS (pc := 143) (y := mX2_removeCue) (k := 6) dX2_removeCue_143 (sF_at (by assumption)) rfl q430 ?_
      refine wf_getN (k := 6) (l := 6) 2 dX2_removeCue_146 (by assumption) rfl q1199 (Or.inl rfl) (Nat.le_of_ble_eq_true rfl) (Nat.le_of_ble_eq_true rfl) (by (repeat (first | exact updF_self _ _ _ _ | (apply updF_i; · decide) | (apply updF_a; · first | assumption | (apply Ne.symm; assumption) | omega) | (apply newF_a; · first | assumption | (apply Ne.symm; assumption) | omega) | exact newL_self (by rfl) | exact newF_self (by rfl) | (apply cpyF_a; · first | assumption | (apply Ne.symm; assumption) | omega))) <;> first | assumption | rfl) ?_
      refine wa_if_eq (pc := 149) 156 dX2_removeCue_149 rfl (fun hb149 => ?_) (fun hb149 => ?_)
      · have e2 : ¬ rmF f p (18 + 12 * p + 3) = 1 := fun e => by rw [e] at hb149; exact absurd hb149 (by decide)
        refine wa_iconst (pc := 156) (y := mX2_removeCue) (Int32.ofNat 0) dX2_removeCue_156 rfl ?_
        refine wa_iconst (pc := 157) (y := mX2_removeCue) (Int32.ofNat 1) dX2_removeCue_157 rfl ?_
        first | (simp only [e1, decide_true, Bool.true_or] at hx; rw [e1]; exact hx) | (simp only [e1, e2, decide_true, decide_false, Bool.true_and, Bool.or_false, Bool.false_or] at hx; exact hx)
      · have e2 : rmF f p (18 + 12 * p + 3) = 1 := d5.resolve_left hb149
        refine wa_iconst (pc := 152) (y := mX2_removeCue) (Int32.ofNat 1) dX2_removeCue_152 rfl ?_
        refine wa_goto (pc := 153) (y := mX2_removeCue) 157 dX2_removeCue_153 rfl ?_
        refine wa_iconst (pc := 157) (y := mX2_removeCue) (Int32.ofNat 1) dX2_removeCue_157 rfl ?_
        first | (simp only [e1, decide_true, Bool.true_or] at hx; rw [e1]; exact hx) | (simp only [e1, e2, decide_true, decide_false, Bool.true_and, Bool.or_false, Bool.false_or] at hx; exact hx)
theorem hdW_any {lev : Nat → Int32} {was : Nat} : ∀ {t c : Nat} {f : Nat → Int32}, (hdW lev p was t c f).1 = true → p < u (f 0)
  | 0, _, _, h => by cases h
  | t + 1, c, f, h => by
    have h : (hlB f p c (lev (12 * was + c)) || (hdW lev p was t (c + 1) (hlF f p c (lev (12 * was + c)))).1) = true := h
    rcases Bool.or_eq_true _ _ ▸ h with e | e
    · exact (hlB_gv e).1
    · have := hdW_any e
      rwa [hlF_lo (by decide) (by decide)] at this
theorem rmW_any (h : (rmW f p b).1 = true) : p < u (rmF f p 0) := by
  unfold rmW at h
  cases b with
  | false => cases h
  | true => exact hdW_any h
theorem rmW_t : rmW f p true = (false || (hdW (hvV f p) p 0 12 0 (rmF f p)).1, (hdW (hvV f p) p 0 12 0 (rmF f p)).2) := by
  unfold rmW
  rw [if_pos rfl, Bool.false_or]
theorem rmW_lo {j : Nat} (h : j < 162) (h1 : j ≠ 1) : (rmW f p b).2 j = rmF f p j := by
  unfold rmW
  cases b with
  | false => rfl
  | true => exact hdW_lo h h1
/-- the holding -/
theorem rc_91 {arr n1 : Nat} (hd : 20 ≤ d) (hG : StG G) (hI : Inv f) (hH : HmI f) (hp : pl f v = some p) (hn1 : h.1 ≤ n1) (har : arr < n1) (hOa : ¬ O arr) : ∀ (t c : Nat) (N : Nat) (h2 : AH) (F2 : Nat → Nat → Value) (A : SA) (f1 : Nat → Int32) (y : Bool), c + t = 12 → n1 ≤ h2.1 → Fr (OP O h) h F h2 F2 → Cst N h h2 → N + 1800 * t ≤ 22490 → u (f1 1) + t ≤ 72 → ShowR G h2 F2 (fun b => O b ∨ n1 ≤ b) s A f1 g → rmW f p true = (y || (hdW (hvV f p) p 0 t c f1).1, (hdW (hvV f p) p 0 t c f1).2) → (∀ j, j < 162 → j ≠ 1 → f1 j = rmF f p j) → Is h2 arr 32 12 → (∀ j, c ≤ j → j < 12 → F2 arr j = .int (hvV f p j)) →
    WA G d mX2_removeCue 91 [.ref s, .int v, .int (bI true), .int (Int32.ofNat p), .ref arr, .int (f (18 + 12 * p + 3)), .int (bI y), .int (Int32.ofNat c)] [] (sF h2 F2) (RmcQ G s f g v true O h F) := by
  have h12 := hI.1
  have hpl := (pl_some hp).1
  intro t
  induction t with
  | zero =>
    intro c N h2 F2 A f1 y hc hn2 fr cst hN h1 S hW hlo ia hv
    have hc : c = 12 := by omega
    subst hc
    have e1 : (rmW f p true).1 = y := by rw [hW]; show (y || false) = y; simp
    have e2 : (rmW f p true).2 = f1 := by rw [hW]; rfl
    have k := rc_125 (v4 := .ref arr) (v7 := .int (Int32.ofNat 12)) hd hI hp fr cst (by omega) (A := A) (g := g) (b := true) (by rw [e2]; exact S.mono fun b _ hb => hb.imp (fun q => q) (fun q => Nat.le_trans hn1 q)) rmW_any (fun j h1 h2 => rmW_lo h1 h2)
    rw [e1] at k
    refine wa_iload (pc := 91) (y := mX2_removeCue) dX2_removeCue_91 rfl ?_
    refine wa_bipush (pc := 93) (y := mX2_removeCue) (Int32.ofNat 12) dX2_removeCue_93 rfl ?_
    refine wa_icmp_ge (pc := 95) 125 dX2_removeCue_95 rfl (fun hb95 => ?_) (fun hb95 => absurd ((iN_le (by omega) (by omega)).mpr (Nat.le_refl 12)) hb95)
    exact k
  | succ t ih =>
    intro c N h2 F2 A f1 y hc hn2 fr cst hN h1 S hW hlo ia hv
    have S_is := S.is
    have hvc := hv c (Nat.le_refl _) (by omega)
    refine wa_iload (pc := 91) (y := mX2_removeCue) dX2_removeCue_91 rfl ?_
    refine wa_bipush (pc := 93) (y := mX2_removeCue) (Int32.ofNat 12) dX2_removeCue_93 rfl ?_
    refine wa_icmp_ge (pc := 95) 125 dX2_removeCue_95 rfl (fun hb95 => absurd ((iN_le (by omega) (by omega)).mp hb95) (by omega)) (fun hb95 => ?_)
    refine wa_iload_n (pc := 98) (y := mX2_removeCue) dX2_removeCue_98 rfl ?_
    refine wa_if_eq (pc := 99) 125 dX2_removeCue_99 rfl (fun hb99 => absurd hb99 (by decide)) (fun hb99 => ?_)
    refine wa_iload (pc := 102) (y := mX2_removeCue) dX2_removeCue_102 rfl ?_
    refine wa_aloadV_n (pc := 104) (y := mX2_removeCue) dX2_removeCue_104 rfl (by first | exact rf_s _ | exact rf_n | exact rf_q _) ?_
    refine wa_iload_n (pc := 105) (y := mX2_removeCue) dX2_removeCue_105 rfl ?_
    refine wa_iload (pc := 106) (y := mX2_removeCue) dX2_removeCue_106 rfl ?_
    refine wa_aloadV (pc := 108) (y := mX2_removeCue) dX2_removeCue_108 rfl (by first | exact rf_s _ | exact rf_n | exact rf_q _) ?_
    refine wa_iload (pc := 110) (y := mX2_removeCue) dX2_removeCue_110 rfl ?_
    refine wf_iaload dX2_removeCue_112 (by assumption) (by omega) (by (repeat (first | exact updF_self _ _ _ _ | (apply updF_i; · decide) | (apply updF_a; · first | assumption | (apply Ne.symm; assumption) | omega) | (apply newF_a; · first | assumption | (apply Ne.symm; assumption) | omega) | exact newL_self (by rfl) | exact newF_self (by rfl) | (apply cpyF_a; · first | assumption | (apply Ne.symm; assumption) | omega))) <;> first | assumption | rfl) ?_
    refine wa_callV (pc := 113) (s_X2_holds (d := d - 1) (k := p) (c := c) (by omega) hG S (by omega) (by omega) (hvV_ne hH (by omega)) (by omega)) dX2_removeCue_113 okX2_holds q1940 q1942 qs15 (sF_at (by assumption)) rfl rfl rfl (Nat.le_of_ble_eq_true rfl) (Nat.le_of_ble_eq_true rfl) (by omega) ?_
    rintro _ _ - - ⟨h3, F3, ns3, ks3, rfl, rfl, fr3, cst3, S3⟩
    refine aft_v (pc2 := 116) ?_ rfl
    refine wa_ior (pc := 116) (y := mX2_removeCue) dX2_removeCue_116 ?_
    rw [bI_or]
    refine wa_istore (pc := 117) (y := mX2_removeCue) dX2_removeCue_117 (Nat.le_of_ble_eq_true rfl) (by first | rfl | (simp [okst, rf_cat] <;> assumption)) ?_
    simp only [List.set_cons_zero, List.set_cons_succ]
    refine wa_iincN (pc := 119) (y := mX2_removeCue) dX2_removeCue_119 rfl (Nat.le_of_ble_eq_true rfl) (by first | rfl | (simp [okst, rf_cat] <;> assumption)) ?_
    simp only [List.set_cons_zero, List.set_cons_succ]
    refine wa_goto (pc := 122) (y := mX2_removeCue) 91 dX2_removeCue_122 rfl ?_
    refine ih (c + 1) (N + 1800) h3 F3 _ (hlF f1 p c (hvV f p c)) (y || hlB f1 p c (hvV f p c)) (by omega) (Nat.le_trans hn2 fr3.1.1) (fr.trans fr3 (fun b hb hp2 => ⟨hp2.1.resolve_right (by omega), fun k => hp2.2 (k.ext fr.1)⟩)) (cst.trans cst3) (by omega) (by have := (hlF_1 (f := f1) (k := p) (c := c) (had := hvV f p c) (by omega)).2; omega) (S3.mono fun b _ hb => hb.elim (fun q => q) (fun q => Or.inr (Nat.le_trans hn2 q))) ?_ (fun j h1 h2 => by rw [hlF_lo h1 h2]; exact hlo j h1 h2) (fr3.is ia) (fun j h1 h2 => (fr3.at ia.lt (fun q => q.1.elim hOa (by omega)) j).trans (hv j (by omega) h2))
    rw [hW]
    show (y || (hlB f1 p c (hvV f p (12 * 0 + c)) || (hdW (hvV f p) p 0 t (c + 1) (hlF f1 p c (hvV f p (12 * 0 + c)))).1), (hdW (hvV f p) p 0 t (c + 1) (hlF f1 p c (hvV f p (12 * 0 + c)))).2) = _
    rw [show 12 * 0 + c = c by omega, Bool.or_assoc]
theorem rc_91F {N : Nat} {v4 : Value} (hd : 20 ≤ d) (hI : Inv f) (hp : pl f v = some p) (h4 : v4.category = 1) (fr : Fr (OP O h) h F h2 F2) (cst : Cst N h h2) (hN : N ≤ 22490) (S : ShowR G h2 F2 (fun b => O b ∨ h.1 ≤ b) s A (rmF f p) g) :
    WA G d mX2_removeCue 91 [.ref s, .int v, .int (bI false), .int (Int32.ofNat p), v4, .int (f (18 + 12 * p + 3)), .int (bI false), .int (Int32.ofNat 0)] [] (sF h2 F2) (RmcQ G s f g v false O h F) := by
  have k := rc_125 (v4 := v4) (v7 := .int (Int32.ofNat 0)) hd hI hp fr cst hN (A := A) (g := g) (b := false) S rmW_any (fun j h1 h2 => rmW_lo h1 h2)
  refine wa_iload (pc := 91) (y := mX2_removeCue) dX2_removeCue_91 rfl ?_
  refine wa_bipush (pc := 93) (y := mX2_removeCue) (Int32.ofNat 12) dX2_removeCue_93 rfl ?_
  refine wa_icmp_ge (pc := 95) 125 dX2_removeCue_95 rfl (fun hb95 => absurd ((iN_le (by omega) (by omega)).mp hb95) (by omega)) (fun hb95 => ?_)
  refine wa_iload_n (pc := 98) (y := mX2_removeCue) dX2_removeCue_98 rfl ?_
  refine wa_if_eq (pc := 99) 125 dX2_removeCue_99 rfl (fun hb99 => ?_) (fun hb99 => absurd rfl hb99)
  exact k
theorem s_X2_removeCue (hd : 21 ≤ d) (hG : StG G) (hI : Inv f) (hH : HmI f) (S : ShowR G h F O s A f g) (hO : ∀ b, O b → b < h.1) : MA G d mX2_removeCue [.ref s, .int v, .int (bI b)] (sF h F) (RmcQ G s f g v b O h F) := by
  have h12 := hI.1
  have h60 := hI.2.1
  have S_is := S.is
  have hOh : ¬ O h.1 := fun e => absurd (hO _ e) (Nat.lt_irrefl _)
  have hn12 := S.nlt
  have k55 : ∀ (p : Nat) (x : Int32) (h2 : AH) (F2 : Nat → Nat → Value), pl f v = some p → Fr NoP h F h2 F2 → Cst 160 h h2 → Is h2 h.1 32 12 → (∀ j, j < 12 → F2 h.1 j = .int (hvV f p j)) →
      WA G d mX2_removeCue 55 [.ref s, .int v, .int (bI b), .int (Int32.ofNat p), .ref h.1, .int x, .retAddr 0, .retAddr 0] [] (sF h2 F2) (RmcQ G s f g v b O h F) := by
    intro p x h2 F2 hp fr cst ia hv
    have hpl := (pl_some hp).1
    have hfp := (pl_some hp).2
    have S2 := S.rd fr
    have S2_is := S2.is; have S2_0 := S2.f0; have S2_1 := S2.f1; have S2_2 := S2.f2; have S2_3 := S2.f3; have S2_4 := S2.f4; have S2_5 := S2.f5; have S2_6 := S2.f6; have S2_7 := S2.f7; have S2_h := S2.hm; have S2_c := S2.cl.1; have S2_l := S2.fl.1; have S2_m := S2.im.1
    obtain ⟨a, ha⟩ := S2.cu hpl
    obtain ⟨m, m1, m2, hm⟩ := S2.num ha
    have hvm : v = Int32.ofNat m := hfp.symm.trans hm
    have C := S2.cue p a ha
    have c1 := C.1
    have c3 := C.2.2.2.2.1
    refine wa_aloadV_n (pc := 55) (y := mX2_removeCue) dX2_removeCue_55 rfl (by first | exact rf_s _ | exact rf_n | exact rf_q _) ?_
    refine wf_get (k := 1) (l := 8) 0 dX2_removeCue_56 (by assumption) rfl q355 (Or.inl rfl) (Nat.le_of_ble_eq_true rfl) (Nat.le_of_ble_eq_true rfl) (by (repeat (first | exact updF_self _ _ _ _ | (apply updF_i; · decide) | (apply updF_a; · first | assumption | (apply Ne.symm; assumption) | omega) | (apply newF_a; · first | assumption | (apply Ne.symm; assumption) | omega) | exact newL_self (by rfl) | exact newF_self (by rfl) | (apply cpyF_a; · first | assumption | (apply Ne.symm; assumption) | omega))) <;> first | assumption | rfl) ?_
    refine wa_iload_n (pc := 59) (y := mX2_removeCue) dX2_removeCue_59 rfl ?_
    refine wa_callV (pc := 60) (s_J2_get (d := d - 1) (by omega) S2.cl ha) dX2_removeCue_60 okJ2_get q416 q417 q418 (sF_at (by assumption)) rfl rfl rfl (Nat.le_of_ble_eq_true rfl) (Nat.le_of_ble_eq_true rfl) (by omega) ?_
    rintro _ _ - - ⟨rfl, rfl⟩
    refine aft_v (pc2 := 63) ?_ rfl
    refine wa_castS (pc := 63) (y := mX2_removeCue) (k := 6) dX2_removeCue_63 (sF_at (by assumption)) rfl q430 ?_
    refine wf_getN (k := 6) (l := 6) 2 dX2_removeCue_66 (by assumption) rfl q1199 (Or.inl rfl) (Nat.le_of_ble_eq_true rfl) (Nat.le_of_ble_eq_true rfl) (by (repeat (first | exact updF_self _ _ _ _ | (apply updF_i; · decide) | (apply updF_a; · first | assumption | (apply Ne.symm; assumption) | omega) | (apply newF_a; · first | assumption | (apply Ne.symm; assumption) | omega) | exact newL_self (by rfl) | exact newF_self (by rfl) | (apply cpyF_a; · first | assumption | (apply Ne.symm; assumption) | omega))) <;> first | assumption | rfl) ?_
    refine wa_istore (pc := 69) (y := mX2_removeCue) dX2_removeCue_69 (Nat.le_of_ble_eq_true rfl) (by first | rfl | (simp [okst, rf_cat] <;> assumption)) ?_
    simp only [List.set_cons_zero, List.set_cons_succ]
    refine wa_aloadV_n (pc := 71) (y := mX2_removeCue) dX2_removeCue_71 rfl (by first | exact rf_s _ | exact rf_n | exact rf_q _) ?_
    refine wa_iload_n (pc := 72) (y := mX2_removeCue) dX2_removeCue_72 rfl ?_
    rw [hvm]
    refine wa_callV (pc := 73) (s_X2_removeInstructions (d := d - 1) (n := m) (by omega) hG m2 S2) dX2_removeCue_73 okX2_removeInstructions q1877 q1879 qs14 (sF_at (by assumption)) rfl rfl rfl (Nat.le_of_ble_eq_true rfl) (Nat.le_of_ble_eq_true rfl) (by omega) ?_
    rintro _ _ - - ⟨h3, F3, ns3, ks3, rfl, rfl, fr3, cst3, S3⟩
    refine aft_0 (pc2 := 76) ?_ rfl
    rw [← hvm] at S3 ⊢
    have S3_is := S3.is; have S3_0 := S3.f0; have S3_1 := S3.f1; have S3_2 := S3.f2; have S3_3 := S3.f3; have S3_4 := S3.f4; have S3_5 := S3.f5; have S3_6 := S3.f6; have S3_7 := S3.f7; have S3_h := S3.hm; have S3_c := S3.cl.1; have S3_l := S3.fl.1; have S3_m := S3.im.1
    have hpe : p < u (rmg v (u (f 1)) f 0) := by rw [rmg_lo (by decide) (by decide)]; exact hpl
    refine wa_aloadV_n (pc := 76) (y := mX2_removeCue) dX2_removeCue_76 rfl (by first | exact rf_s _ | exact rf_n | exact rf_q _) ?_
    refine wf_get (k := 1) (l := 8) 0 dX2_removeCue_77 (by assumption) rfl q355 (Or.inl rfl) (Nat.le_of_ble_eq_true rfl) (Nat.le_of_ble_eq_true rfl) (by (repeat (first | exact updF_self _ _ _ _ | (apply updF_i; · decide) | (apply updF_a; · first | assumption | (apply Ne.symm; assumption) | omega) | (apply newF_a; · first | assumption | (apply Ne.symm; assumption) | omega) | exact newL_self (by rfl) | exact newF_self (by rfl) | (apply cpyF_a; · first | assumption | (apply Ne.symm; assumption) | omega))) <;> first | assumption | rfl) ?_
    refine wa_iload_n (pc := 80) (y := mX2_removeCue) dX2_removeCue_80 rfl ?_
    refine wa_callV (pc := 81) (s_J2_remove (d := d - 1) (by omega) S3.cl ha) dX2_removeCue_81 okJ2_remove q1939 q1770 q1771 (sF_at (by assumption)) rfl rfl rfl (Nat.le_of_ble_eq_true rfl) (Nat.le_of_ble_eq_true rfl) (by omega) ?_
    rintro _ _ - - ⟨rfl, F4, rfl, L4, fr4⟩
    refine aft_v (pc2 := 84) ?_ rfl
    have S4 := S3.remC hpe L4 fr4
    have hrm : rcF (rmg v (u (f 1)) f) p = rmF f p := by unfold rmF; rw [hfp]
    rw [hrm] at S4
    have frA : Fr (OP O h) h F h3 F3 := fr.op.opT fr3
    have frB : Fr (OP O h) h F h3 F4 := frA.trans fr4 (fun b hb hb2 => ⟨(S3.own b (Or.inr (Or.inr (Or.inl hb2)))).resolve_right (by have := fr.1.1; omega), fun hk => by rcases hk with e | e | e <;> (rcases hb2 with e9 | ⟨e9, z9, hz9⟩; exact absurd e9 ((e.ext frA.1).ne S3_c (by decide)); exact absurd e9 ((e.ext frA.1).ne hz9 (by decide)))⟩)
    have cstB : Cst 170 h h3 := (cst.trans cst3).mono (by omega)
    have S5 : ShowR G h3 F4 (fun b => O b ∨ h2.1 ≤ b) s _ (rmF f p) g := S4.mono fun b _ hb => hb.elim (fun q => q) (fun q => Or.inr (Nat.le_trans fr3.1.1 q))
    have ia4 : Is h3 h.1 32 12 := fr3.is ia
    have hv4 : ∀ j, F4 h.1 j = F2 h.1 j := fun j => (fr4.at ia4.lt (fun hb2 => by rcases hb2 with e9 | ⟨e9, z9, hz9⟩; exact absurd e9 (ia4.ne S3_c (by decide)); exact absurd e9 (ia4.ne hz9 (by decide))) j).trans (fr3.at ia.lt (fun q => hOh q.1) j)
    refine wa_pop (pc := 84) (y := mX2_removeCue) dX2_removeCue_84 (by first | rfl | exact rf_cat _) ?_
    refine wa_iconst (pc := 85) (y := mX2_removeCue) (Int32.ofNat 0) dX2_removeCue_85 rfl ?_
    refine wa_istore (pc := 86) (y := mX2_removeCue) dX2_removeCue_86 (Nat.le_of_ble_eq_true rfl) (by first | rfl | (simp [okst, rf_cat] <;> assumption)) ?_
    simp only [List.set_cons_zero, List.set_cons_succ]
    refine wa_iconst (pc := 88) (y := mX2_removeCue) (Int32.ofNat 0) dX2_removeCue_88 rfl ?_
    refine wa_istore (pc := 89) (y := mX2_removeCue) dX2_removeCue_89 (Nat.le_of_ble_eq_true rfl) (by first | rfl | (simp [okst, rf_cat] <;> assumption)) ?_
    simp only [List.set_cons_zero, List.set_cons_succ]
    cases b with
    | false => exact rc_91F (by omega) hI hp rfl frB cstB (by omega) (S5.mono fun b _ hb => hb.imp (fun q => q) (fun q => Nat.le_trans fr.1.1 q))
    | true => exact rc_91 (h := h) (n1 := h2.1) (by omega) hG hI hH hp fr.1.1 ia.lt hOh 12 0 170 h3 F4 _ (rmF f p) false rfl fr3.1.1 frB cstB (by omega) (by have := rmF_1 (p := p) h12 (by omega : u (f 1) ≤ 75); omega) S5 rmW_t (fun _ _ _ => rfl) ia4 (fun j _ hj => (hv4 j).trans (hv j hj))
  have k15 : ∀ (p : Nat), pl f v = some p → ∀ (t c : Nat) (h2 : AH) (F2 : Nat → Nat → Value), c + t = 12 → Fr NoP h F h2 F2 → Cst (4 + 12 * c) h h2 → Is h2 h.1 32 12 → (∀ j, j < 12 → F2 h.1 j = .int (if j < c then hvV f p j else 0)) →
      WA G d mX2_removeCue 15 [.ref s, .int v, .int (bI b), .int (Int32.ofNat p), .ref h.1, .int (Int32.ofNat c), .retAddr 0, .retAddr 0] [] (sF h2 F2) (RmcQ G s f g v b O h F) := by
    intro p hp t
    have hpl := (pl_some hp).1
    induction t with
    | zero =>
      intro c h2 F2 hc fr cst ia hv
      have hc : c = 12 := by omega
      subst hc
      refine wa_iload (pc := 15) (y := mX2_removeCue) dX2_removeCue_15 rfl ?_
      refine wa_bipush (pc := 17) (y := mX2_removeCue) (Int32.ofNat 12) dX2_removeCue_17 rfl ?_
      refine wa_icmp_ge (pc := 19) 55 dX2_removeCue_19 rfl (fun hb19 => ?_) (fun hb19 => absurd ((iN_le (by omega) (by omega)).mpr (Nat.le_refl 12)) hb19)
      exact k55 p _ h2 F2 hp fr (cst.mono (by omega)) ia (fun j hj => by rw [hv j hj, if_pos hj])
    | succ t ih =>
      intro c h2 F2 hc fr cst ia hv
      have S2 := S.rd fr
      have S2_is := S2.is; have S2_0 := S2.f0; have S2_1 := S2.f1; have S2_2 := S2.f2; have S2_3 := S2.f3; have S2_4 := S2.f4; have S2_5 := S2.f5; have S2_6 := S2.f6; have S2_7 := S2.f7; have S2_h := S2.hm; have S2_c := S2.cl.1; have S2_l := S2.fl.1; have S2_m := S2.im.1
      have hnc := S2.nc
      by_cases hlt : p + 1 < u (f 0)
      · refine wa_iload (pc := 15) (y := mX2_removeCue) dX2_removeCue_15 rfl ?_
        refine wa_bipush (pc := 17) (y := mX2_removeCue) (Int32.ofNat 12) dX2_removeCue_17 rfl ?_
        refine wa_icmp_ge (pc := 19) 55 dX2_removeCue_19 rfl (fun hb19 => absurd ((iN_le (by omega) (by omega)).mp hb19) (by omega)) (fun hb19 => ?_)
        refine wa_iload_n (pc := 22) (y := mX2_removeCue) dX2_removeCue_22 rfl ?_
        refine wa_iconst (pc := 23) (y := mX2_removeCue) (Int32.ofNat 1) dX2_removeCue_23 rfl ?_
        first | with_reducible refine wa_iaddN (pc := 24) (y := mX2_removeCue) dX2_removeCue_24 ?_ | refine wa_iadd (pc := 24) (y := mX2_removeCue) dX2_removeCue_24 ?_
        refine wa_aloadV_n (pc := 25) (y := mX2_removeCue) dX2_removeCue_25 rfl (by first | exact rf_s _ | exact rf_n | exact rf_q _) ?_
        refine wf_get (k := 1) (l := 8) 0 dX2_removeCue_26 (by assumption) rfl q355 (Or.inl rfl) (Nat.le_of_ble_eq_true rfl) (Nat.le_of_ble_eq_true rfl) (by (repeat (first | exact updF_self _ _ _ _ | (apply updF_i; · decide) | (apply updF_a; · first | assumption | (apply Ne.symm; assumption) | omega) | (apply newF_a; · first | assumption | (apply Ne.symm; assumption) | omega) | exact newL_self (by rfl) | exact newF_self (by rfl) | (apply cpyF_a; · first | assumption | (apply Ne.symm; assumption) | omega))) <;> first | assumption | rfl) ?_
        refine wa_callV (pc := 29) (s_J2_size (d := d - 1) S2.cl) dX2_removeCue_29 okJ2_size q1181 q1145 q1146 (sF_at (by assumption)) rfl rfl rfl (Nat.le_of_ble_eq_true rfl) (Nat.le_of_ble_eq_true rfl) (by omega) ?_
        rintro _ _ - - ⟨rfl, rfl⟩
        refine aft_v (pc2 := 32) ?_ rfl
        refine wa_icmp_ge (pc := 32) 55 dX2_removeCue_32 rfl (fun hb32 => absurd ((iN_le (by omega) (by omega)).mp hb32) (by omega)) (fun hb32 => ?_)
        refine wa_aloadV (pc := 35) (y := mX2_removeCue) dX2_removeCue_35 rfl (by first | exact rf_s _ | exact rf_n | exact rf_q _) ?_
        refine wa_iload (pc := 37) (y := mX2_removeCue) dX2_removeCue_37 rfl ?_
        refine wa_aloadV_n (pc := 39) (y := mX2_removeCue) dX2_removeCue_39 rfl (by first | exact rf_s _ | exact rf_n | exact rf_q _) ?_
        refine wa_iload_n (pc := 40) (y := mX2_removeCue) dX2_removeCue_40 rfl ?_
        refine wa_iconst (pc := 41) (y := mX2_removeCue) (Int32.ofNat 1) dX2_removeCue_41 rfl ?_
        first | with_reducible refine wa_iaddN (pc := 42) (y := mX2_removeCue) dX2_removeCue_42 ?_ | refine wa_iadd (pc := 42) (y := mX2_removeCue) dX2_removeCue_42 ?_
        refine wa_iload (pc := 43) (y := mX2_removeCue) dX2_removeCue_43 rfl ?_
        refine wa_callV (pc := 45) (s_X2_level (d := d - 1) (k := p + 1) (c := c) (by omega) S2 hlt (by omega)) dX2_removeCue_45 okX2_level q1103 q407 q408 (sF_at (by assumption)) rfl rfl rfl (Nat.le_of_ble_eq_true rfl) (Nat.le_of_ble_eq_true rfl) (by omega) ?_
        rintro _ _ - - ⟨h3, F3, rfl, rfl, fr3, cst3⟩
        refine aft_v (pc2 := 48) ?_ rfl
        have ia3 := fr3.is ia
        refine wf_iastore dX2_removeCue_48 (by assumption) (by omega) ?_
        refine wa_iincN (pc := 49) (y := mX2_removeCue) dX2_removeCue_49 rfl (Nat.le_of_ble_eq_true rfl) (by first | rfl | (simp [okst, rf_cat] <;> assumption)) ?_
        simp only [List.set_cons_zero, List.set_cons_succ]
        refine wa_goto (pc := 52) (y := mX2_removeCue) 15 dX2_removeCue_52 rfl ?_
        exact ih (c + 1) h3 _ (by omega) ((fr.trans fr3 fun _ _ q => q).updT (Or.inr (Nat.le_refl _))) ((cst.trans cst3).mono (by omega)) ia3 (fun j hj => by
          by_cases e : j = c
          · subst e; rw [if_pos (by omega)]; unfold hvV; rw [if_pos hlt]; exact updF_self _ _ _ _
          · rw [updF_i e ((fr3.at ia.lt (fun q => q) j).trans (hv j hj))]; exact congrArg Value.int (ite_lt e))
      · have hz : ∀ j, hvV f p j = 0 := fun j => if_neg hlt
        refine wa_iload (pc := 15) (y := mX2_removeCue) dX2_removeCue_15 rfl ?_
        refine wa_bipush (pc := 17) (y := mX2_removeCue) (Int32.ofNat 12) dX2_removeCue_17 rfl ?_
        refine wa_icmp_ge (pc := 19) 55 dX2_removeCue_19 rfl (fun hb19 => absurd ((iN_le (by omega) (by omega)).mp hb19) (by omega)) (fun hb19 => ?_)
        refine wa_iload_n (pc := 22) (y := mX2_removeCue) dX2_removeCue_22 rfl ?_
        refine wa_iconst (pc := 23) (y := mX2_removeCue) (Int32.ofNat 1) dX2_removeCue_23 rfl ?_
        first | with_reducible refine wa_iaddN (pc := 24) (y := mX2_removeCue) dX2_removeCue_24 ?_ | refine wa_iadd (pc := 24) (y := mX2_removeCue) dX2_removeCue_24 ?_
        refine wa_aloadV_n (pc := 25) (y := mX2_removeCue) dX2_removeCue_25 rfl (by first | exact rf_s _ | exact rf_n | exact rf_q _) ?_
        refine wf_get (k := 1) (l := 8) 0 dX2_removeCue_26 (by assumption) rfl q355 (Or.inl rfl) (Nat.le_of_ble_eq_true rfl) (Nat.le_of_ble_eq_true rfl) (by (repeat (first | exact updF_self _ _ _ _ | (apply updF_i; · decide) | (apply updF_a; · first | assumption | (apply Ne.symm; assumption) | omega) | (apply newF_a; · first | assumption | (apply Ne.symm; assumption) | omega) | exact newL_self (by rfl) | exact newF_self (by rfl) | (apply cpyF_a; · first | assumption | (apply Ne.symm; assumption) | omega))) <;> first | assumption | rfl) ?_
        refine wa_callV (pc := 29) (s_J2_size (d := d - 1) S2.cl) dX2_removeCue_29 okJ2_size q1181 q1145 q1146 (sF_at (by assumption)) rfl rfl rfl (Nat.le_of_ble_eq_true rfl) (Nat.le_of_ble_eq_true rfl) (by omega) ?_
        rintro _ _ - - ⟨rfl, rfl⟩
        refine aft_v (pc2 := 32) ?_ rfl
        refine wa_icmp_ge (pc := 32) 55 dX2_removeCue_32 rfl (fun hb32 => ?_) (fun hb32 => absurd ((iN_le (by omega) (by omega)).mpr (by omega)) hb32)
        exact k55 p _ h2 F2 hp fr (cst.mono (by omega)) ia (fun j hj => by rw [hv j hj, hz]; simp)
  have i9 : Is (hNew h 32 12) h.1 32 12 := Is.self
  have n9 : s ≠ h.1 := Nat.ne_of_lt S_is.lt
  change WA G d mX2_removeCue 0 [.ref s, .int v, .int (bI b), .retAddr 0, .retAddr 0, .retAddr 0, .retAddr 0, .retAddr 0] [] _ _
  refine wa_aloadV_n (pc := 0) (y := mX2_removeCue) dX2_removeCue_0 rfl (by first | exact rf_s _ | exact rf_n | exact rf_q _) ?_
  refine wa_iload_n (pc := 1) (y := mX2_removeCue) dX2_removeCue_1 rfl ?_
  refine wa_callV (pc := 2) (s_X2_index (d := d - 1) (v := v) (by omega) S) dX2_removeCue_2 okX2_index q1876 q1830 q1831 (sF_at (by assumption)) rfl rfl rfl (Nat.le_of_ble_eq_true rfl) (Nat.le_of_ble_eq_true rfl) (by omega) ?_
  rintro r h' - - (⟨p, hp, rfl, rfl⟩ | ⟨e, Q⟩)
  rotate_left
  · exact Q.after ⟨_, rfl⟩ rfl fun h2 F2 q fr cst iq => Or.inl ⟨e, h2, F2, q, rfl, rfl, fr, cst, iq⟩
  refine aft_v (pc2 := 5) ?_ rfl
  refine wa_istore_n (pc := 5) (y := mX2_removeCue) dX2_removeCue_5 (Nat.le_of_ble_eq_true rfl) (by first | rfl | (simp [okst, rf_cat] <;> assumption)) ?_
  change WA _ _ _ _ (List.set _ 3 _) _ _ _
  simp only [List.set_cons_zero, List.set_cons_succ]
  refine wa_bipush (pc := 6) (y := mX2_removeCue) (Int32.ofNat 12) dX2_removeCue_6 rfl ?_
  refine wf_newarray 32 dX2_removeCue_8 (by decide) (Or.inl ⟨rfl, rfl⟩) q271 ?_
  refine wa_astoreV (pc := 10) (y := mX2_removeCue) dX2_removeCue_10 (Nat.le_of_ble_eq_true rfl) (by first | rfl | (simp [okst, rf_cat] <;> assumption)) (by first | exact rf_s _ | exact rf_n | exact rf_q _) ?_
  simp only [List.set_cons_zero, List.set_cons_succ]
  refine wa_iconst (pc := 12) (y := mX2_removeCue) (Int32.ofNat 0) dX2_removeCue_12 rfl ?_
  refine wa_istore (pc := 13) (y := mX2_removeCue) dX2_removeCue_13 (Nat.le_of_ble_eq_true rfl) (by first | rfl | (simp [okst, rf_cat] <;> assumption)) ?_
  simp only [List.set_cons_zero, List.set_cons_succ]
  exact k15 p hp 12 0 _ _ rfl (Fr.newT Fr.refl) ⟨by show h.1 + 1 ≤ h.1 + (4 + 12 * 0); omega, by show h.2.1 + 12 ≤ h.2.1 + 4 * (4 + 12 * 0); omega⟩ i9 (fun j hj => by rw [if_neg (by omega)]; exact newF_self rfl)
end RMCUE
