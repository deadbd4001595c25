/-! ===== CueStackModel: editing ===== -/
theorem upd_s (f : Nat → Int32) (k : Nat) (v : Int32) : upd f k v k = v := by simp [upd]
theorem upd_o (f : Nat → Int32) {k j : Nat} (v : Int32) (h : j ≠ k) : upd f k v j = f j := by simp [upd, h]
def ipg (f : Nat → Int32) (n : Int32) : Nat → Nat → Nat
  | 0, k => k
  | t + 1, k => if f (18 + 12 * k) < n then ipg f n t (k + 1) else k
/-- the place where a new cue comes -/
def ip (f : Nat → Int32) (n : Int32) : Nat := ipg f n (u (f 0)) 0
theorem ipg_le {f : Nat → Int32} {n : Int32} : ∀ {t k : Nat}, ipg f n t k ≤ k + t
  | 0, k => Nat.le_refl _
  | t + 1, k => by
    unfold ipg
    split
    · have := ipg_le (f := f) (n := n) (t := t) (k := k + 1)
      omega
    · omega
theorem ip_le (f : Nat → Int32) (n : Int32) : ip f n ≤ u (f 0) := by
  have := ipg_le (f := f) (n := n) (t := u (f 0)) (k := 0)
  unfold ip
  omega
def zrF (g : Nat → Int32) (b n : Nat) : Nat → Int32 := fun j => if b ≤ j ∧ j < b + n then 0 else g j
def adF (f : Nat → Int32) (n : Int32) (p : Nat) : Nat → Int32 :=
  upd (upd (upd (zrF (cpF f f (18 + 12 * p) (18 + 12 * (p + 1)) (12 * (u (f 0) - p))) (18 + 12 * p) 12) (18 + 12 * p) n) (18 + 12 * p + 1) (-1)) 0 (Int32.ofNat (u (f 0) + 1))
/-- doAdd: its answer, the state -/
def dA (f : Nat → Int32) (n : Int32) : Nat × (Nat → Int32) := if inb n 1 99 = false ∨ isC f n = true then (1, f) else if u (f 0) = 12 then (2, f) else (0, adF f n (ip f n))
/-- give -/
def giK (f : Nat → Int32) (cue ch : Int32) : Nat := match gv f cue ch with
  | some k => k
  | none => u (f 1)
def giM (f : Nat → Int32) (cue ch : Int32) : Nat → Int32 := match gv f cue ch with
  | some _ => f
  | none => upd f 1 (Int32.ofNat (u (f 1) + 1))
def giF (f : Nat → Int32) (cue ch lev part : Int32) : Nat → Int32 :=
  upd (upd (upd (upd (giM f cue ch) (162 + 4 * giK f cue ch) cue) (162 + 4 * giK f cue ch + 1) ch) (162 + 4 * giK f cue ch + 2) lev) (162 + 4 * giK f cue ch + 3) part
def tkF (f : Nat → Int32) (k : Nat) : Nat → Int32 :=
  cpF (upd f 1 (Int32.ofNat (u (f 1) - 1))) (upd f 1 (Int32.ofNat (u (f 1) - 1))) (162 + 4 * k + 4) (162 + 4 * k) (4 * (u (f 1) - 1 - k))
section MEDIT
variable {G : GG} {d : Nat} {h : AH} {m : Nat} {f : Nat → Int32} {σ : MS}
theorem s_X6_doAdd {n : Int32} (hd : 3 ≤ d) (hI : Inv f) : MA G d mX6_doAdd [.ref m, .int n] (mH h m f σ) (fun r h' => r = .inl (some (.int (Int32.ofNat (dA f n).1))) ∧ h' = mH h m (dA f n).2 σ) := by
  have hn := hI.1
  have hp := ip_le f n
  have hb : ∀ k, 18 + 12 * k ≠ 0 := fun k => by omega
  show WA _ _ _ 0 [.ref m, .int n, .retAddr 0, .retAddr 0] [] _ _
  by_cases e1 : inb n 1 99 = false ∨ isC f n = true
  · have ed : dA f n = (1, f) := if_pos e1
    rw [ed]
    by_cases e2 : inb n 1 99 = false
    · refine wa_iload_n (pc := 0) (y := mX6_doAdd) dX6_doAdd_0 rfl ?_
      refine wa_iconst (pc := 1) (y := mX6_doAdd) (Int32.ofNat 1) dX6_doAdd_1 rfl ?_
      refine wa_bipush (pc := 2) (y := mX6_doAdd) (Int32.ofNat 99) dX6_doAdd_2 rfl ?_
      refine wa_callS (pc := 4) (s_X6_in (d := d - 1)) dX6_doAdd_4 okX6_in q2716 q2717 rfl rfl (Nat.le_of_ble_eq_true rfl) (Nat.le_of_ble_eq_true rfl) (by omega) ?_
      rintro _ _ - - ⟨rfl, rfl⟩
      refine aft_v (pc2 := 7) ?_ rfl
      refine wa_if_eq (pc := 7) 18 dX6_doAdd_7 rfl (fun hb7 => ?_) (fun hb7 => absurd (bI_0.mpr e2) hb7)
      refine wa_iconst (pc := 18) (y := mX6_doAdd) (Int32.ofNat 1) dX6_doAdd_18 rfl ?_
      exact wa_ireturn (pc := 19) (y := mX6_doAdd) .int dX6_doAdd_19 rfl rfl ⟨rfl, rfl⟩
    · have e3 := e1.resolve_left e2
      refine wa_iload_n (pc := 0) (y := mX6_doAdd) dX6_doAdd_0 rfl ?_
      refine wa_iconst (pc := 1) (y := mX6_doAdd) (Int32.ofNat 1) dX6_doAdd_1 rfl ?_
      refine wa_bipush (pc := 2) (y := mX6_doAdd) (Int32.ofNat 99) dX6_doAdd_2 rfl ?_
      refine wa_callS (pc := 4) (s_X6_in (d := d - 1)) dX6_doAdd_4 okX6_in q2716 q2717 rfl rfl (Nat.le_of_ble_eq_true rfl) (Nat.le_of_ble_eq_true rfl) (by omega) ?_
      rintro _ _ - - ⟨rfl, rfl⟩
      refine aft_v (pc2 := 7) ?_ rfl
      refine wa_if_eq (pc := 7) 18 dX6_doAdd_7 rfl (fun hb7 => absurd (bI_0.mp hb7) e2) (fun hb7 => ?_)
      first | refine wa_aload_n (pc := 10) (y := mX6_doAdd) dX6_doAdd_10 rfl ?_ | refine wa_aload_nN (pc := 10) (y := mX6_doAdd) dX6_doAdd_10 rfl ?_ | refine wa_aload_nq (pc := 10) (y := mX6_doAdd) dX6_doAdd_10 rfl ?_
      refine wa_iload_n (pc := 11) (y := mX6_doAdd) dX6_doAdd_11 rfl ?_
      refine wa_callV (pc := 12) (s_X6_isCue (d := d - 1) (by omega) hI) dX6_doAdd_12 okX6_isCue q2719 q2721 qs41 mH_o rfl rfl rfl (Nat.le_of_ble_eq_true rfl) (Nat.le_of_ble_eq_true rfl) (by omega) ?_
      rintro _ _ - - ⟨rfl, rfl⟩
      refine aft_v (pc2 := 15) ?_ rfl
      rw [e3]
      refine wa_if_eq (pc := 15) 20 dX6_doAdd_15 rfl (fun hb15 => absurd hb15 (by decide)) (fun hb15 => ?_)
      refine wa_iconst (pc := 18) (y := mX6_doAdd) (Int32.ofNat 1) dX6_doAdd_18 rfl ?_
      exact wa_ireturn (pc := 19) (y := mX6_doAdd) .int dX6_doAdd_19 rfl rfl ⟨rfl, rfl⟩
  · have e2 : inb n 1 99 = true := by cases e : inb n 1 99 <;> simp_all
    have e3 : isC f n = false := by cases e : isC f n <;> simp_all
    have upto : ∀ (Q : RR → AH → Prop), WA G d mX6_doAdd 20 [.ref m, .int n, .retAddr 0, .retAddr 0] [] (mH h m f σ) Q → WA G d mX6_doAdd 0 [.ref m, .int n, .retAddr 0, .retAddr 0] [] (mH h m f σ) Q := by
      intro Q K
      refine wa_iload_n (pc := 0) (y := mX6_doAdd) dX6_doAdd_0 rfl ?_
      refine wa_iconst (pc := 1) (y := mX6_doAdd) (Int32.ofNat 1) dX6_doAdd_1 rfl ?_
      refine wa_bipush (pc := 2) (y := mX6_doAdd) (Int32.ofNat 99) dX6_doAdd_2 rfl ?_
      refine wa_callS (pc := 4) (s_X6_in (d := d - 1)) dX6_doAdd_4 okX6_in q2716 q2717 rfl rfl (Nat.le_of_ble_eq_true rfl) (Nat.le_of_ble_eq_true rfl) (by omega) ?_
      rintro _ _ - - ⟨rfl, rfl⟩
      refine aft_v (pc2 := 7) ?_ rfl
      rw [show inb n (Int32.ofNat 1) (Int32.ofNat 99) = true from e2]
      refine wa_if_eq (pc := 7) 18 dX6_doAdd_7 rfl (fun hb7 => absurd hb7 (by decide)) (fun hb7 => ?_)
      first | refine wa_aload_n (pc := 10) (y := mX6_doAdd) dX6_doAdd_10 rfl ?_ | refine wa_aload_nN (pc := 10) (y := mX6_doAdd) dX6_doAdd_10 rfl ?_ | refine wa_aload_nq (pc := 10) (y := mX6_doAdd) dX6_doAdd_10 rfl ?_
      refine wa_iload_n (pc := 11) (y := mX6_doAdd) dX6_doAdd_11 rfl ?_
      refine wa_callV (pc := 12) (s_X6_isCue (d := d - 1) (by omega) hI) dX6_doAdd_12 okX6_isCue q2719 q2721 qs41 mH_o rfl rfl rfl (Nat.le_of_ble_eq_true rfl) (Nat.le_of_ble_eq_true rfl) (by omega) ?_
      rintro _ _ - - ⟨rfl, rfl⟩
      refine aft_v (pc2 := 15) ?_ rfl
      rw [e3]
      refine wa_if_eq (pc := 15) 20 dX6_doAdd_15 rfl (fun hb15 => ?_) (fun hb15 => absurd rfl hb15)
      exact K
    apply upto
    by_cases e4 : u (f 0) = 12
    · have ed : dA f n = (2, f) := (if_neg e1).trans (if_pos e4)
      rw [ed]
      first | refine wa_aload_n (pc := 20) (y := mX6_doAdd) dX6_doAdd_20 rfl ?_ | refine wa_aload_nN (pc := 20) (y := mX6_doAdd) dX6_doAdd_20 rfl ?_ | refine wa_aload_nq (pc := 20) (y := mX6_doAdd) dX6_doAdd_20 rfl ?_
      refine wa_getf (pc := 21) (y := mX6_doAdd) (k := 5) 0 dX6_doAdd_21 mH_o rfl q2643 (Or.inl rfl) (Nat.le_of_ble_eq_true rfl) (by rfl) ?_
      refine wa_iconst (pc := 24) (y := mX6_doAdd) (Int32.ofNat 0) dX6_doAdd_24 rfl ?_
      refine wa_ialoadU (pc := 25) (y := mX6_doAdd) dX6_doAdd_25 mH_1 (by omega) ?_
      rw [e4]
      refine wa_bipush (pc := 26) (y := mX6_doAdd) (Int32.ofNat 12) dX6_doAdd_26 rfl ?_
      refine wa_icmp_ne (pc := 28) 33 dX6_doAdd_28 rfl (fun hb28 => absurd rfl hb28) (fun hb28 => ?_)
      refine wa_iconst (pc := 31) (y := mX6_doAdd) (Int32.ofNat 2) dX6_doAdd_31 rfl ?_
      exact wa_ireturn (pc := 32) (y := mX6_doAdd) .int dX6_doAdd_32 rfl rfl ⟨rfl, rfl⟩
    · have ed : dA f n = (0, adF f n (ip f n)) := (if_neg e1).trans (if_neg e4)
      rw [ed]
      have fin : WA G d mX6_doAdd 64 [.ref m, .int n, .int (Int32.ofNat (ip f n)), .retAddr 0] [] (mH h m f σ) (fun r h' => r = .inl (some (.int (Int32.ofNat 0))) ∧ h' = mH h m (adF f n (ip f n)) σ) := by
        unfold adF
        generalize ip f n = p at hp ⊢
        have zk : ∀ t c, c + t = 12 → WA G d mX6_doAdd 98 [.ref m, .int n, .int (Int32.ofNat p), .int (Int32.ofNat c)] [] (mH h m (zrF (cpF f f (18 + 12 * p) (18 + 12 * (p + 1)) (12 * (u (f 0) - p))) (18 + 12 * p) c) σ) (fun r h' => r = .inl (some (.int (Int32.ofNat 0))) ∧ h' = mH h m (upd (upd (upd (zrF (cpF f f (18 + 12 * p) (18 + 12 * (p + 1)) (12 * (u (f 0) - p))) (18 + 12 * p) 12) (18 + 12 * p) n) (18 + 12 * p + 1) (-1)) 0 (Int32.ofNat (u (f 0) + 1))) σ) := by
          generalize eg : cpF f f (18 + 12 * p) (18 + 12 * (p + 1)) (12 * (u (f 0) - p)) = g
          have eg0 : g 0 = f 0 := by
            rw [← eg]
            unfold cpF
            rw [if_neg (by omega)]
          intro t
          induction t with
          | zero =>
            intro c hc
            obtain rfl : c = 12 := hc
            have e0 : upd (upd (zrF g (18 + 12 * p) 12) (18 + 12 * p) n) (18 + 12 * p + 1) (-1) 0 = Int32.ofNat (u (f 0)) := by
              rw [upd_o _ _ (by omega), upd_o _ _ (by omega)]
              unfold zrF
              rw [if_neg (by omega), eg0, u_self]
            refine wa_iload_n (pc := 98) (y := mX6_doAdd) dX6_doAdd_98 rfl ?_
            refine wa_bipush (pc := 99) (y := mX6_doAdd) (Int32.ofNat 12) dX6_doAdd_99 rfl ?_
            refine wa_icmp_ge (pc := 101) 122 dX6_doAdd_101 rfl (fun hb101 => ?_) (fun hb101 => absurd ((iN_le (by omega) (by omega)).mpr (by omega)) hb101)
            first | refine wa_aload_n (pc := 122) (y := mX6_doAdd) dX6_doAdd_122 rfl ?_ | refine wa_aload_nN (pc := 122) (y := mX6_doAdd) dX6_doAdd_122 rfl ?_ | refine wa_aload_nq (pc := 122) (y := mX6_doAdd) dX6_doAdd_122 rfl ?_
            refine wa_getf (pc := 123) (y := mX6_doAdd) (k := 5) 0 dX6_doAdd_123 mH_o rfl q2643 (Or.inl rfl) (Nat.le_of_ble_eq_true rfl) (by rfl) ?_
            refine wa_iload_n (pc := 126) (y := mX6_doAdd) dX6_doAdd_126 rfl ?_
            refine wa_callS (pc := 127) (s_X6_at (d := d - 1)) dX6_doAdd_127 okX6_at q2727 q2728 rfl rfl (Nat.le_of_ble_eq_true rfl) (Nat.le_of_ble_eq_true rfl) (by omega) ?_
            rintro _ _ - - ⟨rfl, rfl⟩
            refine aft_v (pc2 := 130) ?_ rfl
            refine wa_iload_n (pc := 130) (y := mX6_doAdd) dX6_doAdd_130 rfl ?_
            refine wa_iastoreN (pc := 131) (y := mX6_doAdd) dX6_doAdd_131 mH_1 (by omega) ?_
            rw [mW_1]
            first | refine wa_aload_n (pc := 132) (y := mX6_doAdd) dX6_doAdd_132 rfl ?_ | refine wa_aload_nN (pc := 132) (y := mX6_doAdd) dX6_doAdd_132 rfl ?_ | refine wa_aload_nq (pc := 132) (y := mX6_doAdd) dX6_doAdd_132 rfl ?_
            refine wa_getf (pc := 133) (y := mX6_doAdd) (k := 5) 0 dX6_doAdd_133 mH_o rfl q2643 (Or.inl rfl) (Nat.le_of_ble_eq_true rfl) (by rfl) ?_
            refine wa_iload_n (pc := 136) (y := mX6_doAdd) dX6_doAdd_136 rfl ?_
            refine wa_callS (pc := 137) (s_X6_at (d := d - 1)) dX6_doAdd_137 okX6_at q2727 q2728 rfl rfl (Nat.le_of_ble_eq_true rfl) (Nat.le_of_ble_eq_true rfl) (by omega) ?_
            rintro _ _ - - ⟨rfl, rfl⟩
            refine aft_v (pc2 := 140) ?_ rfl
            refine wa_iconst (pc := 140) (y := mX6_doAdd) (Int32.ofNat 1) dX6_doAdd_140 rfl ?_
            first | with_reducible refine wa_iaddN (pc := 141) (y := mX6_doAdd) dX6_doAdd_141 ?_ | refine wa_iadd (pc := 141) (y := mX6_doAdd) dX6_doAdd_141 ?_
            refine wa_iconst (pc := 142) (y := mX6_doAdd) (-1) dX6_doAdd_142 rfl ?_
            refine wa_iastoreN (pc := 143) (y := mX6_doAdd) dX6_doAdd_143 mH_1 (by omega) ?_
            rw [mW_1]
            first | refine wa_aload_n (pc := 144) (y := mX6_doAdd) dX6_doAdd_144 rfl ?_ | refine wa_aload_nN (pc := 144) (y := mX6_doAdd) dX6_doAdd_144 rfl ?_ | refine wa_aload_nq (pc := 144) (y := mX6_doAdd) dX6_doAdd_144 rfl ?_
            refine wa_getf (pc := 145) (y := mX6_doAdd) (k := 5) 0 dX6_doAdd_145 mH_o rfl q2643 (Or.inl rfl) (Nat.le_of_ble_eq_true rfl) (by rfl) ?_
            refine wa_iconst (pc := 148) (y := mX6_doAdd) (Int32.ofNat 0) dX6_doAdd_148 rfl ?_
            refine wa_dup2 (pc := 149) (y := mX6_doAdd) dX6_doAdd_149 rfl rfl ?_
            refine wa_ialoadN (pc := 150) (y := mX6_doAdd) dX6_doAdd_150 mH_1 (by omega) ?_
            rw [e0]
            refine wa_iconst (pc := 151) (y := mX6_doAdd) (Int32.ofNat 1) dX6_doAdd_151 rfl ?_
            first | with_reducible refine wa_iaddN (pc := 152) (y := mX6_doAdd) dX6_doAdd_152 ?_ | refine wa_iadd (pc := 152) (y := mX6_doAdd) dX6_doAdd_152 ?_
            refine wa_iastoreN (pc := 153) (y := mX6_doAdd) dX6_doAdd_153 mH_1 (by omega) ?_
            rw [mW_1]
            refine wa_iconst (pc := 154) (y := mX6_doAdd) (Int32.ofNat 0) dX6_doAdd_154 rfl ?_
            exact wa_ireturn (pc := 155) (y := mX6_doAdd) .int dX6_doAdd_155 rfl rfl ⟨rfl, rfl⟩
          | succ t ih =>
            intro c hc
            have es : upd (zrF g (18 + 12 * p) c) (18 + 12 * p + c) (Int32.ofNat 0) = zrF g (18 + 12 * p) (c + 1) := funext fun j => by
              unfold upd zrF
              by_cases e : j = 18 + 12 * p + c
              · rw [if_pos e, if_pos (by omega)]; rfl
              · rw [if_neg e]
                show (if 18 + 12 * p ≤ j ∧ j < 18 + 12 * p + c then (0 : Int32) else g j) = _
                by_cases e2 : 18 + 12 * p ≤ j ∧ j < 18 + 12 * p + c
                · rw [if_pos e2, if_pos (by omega)]
                · rw [if_neg e2, if_neg (by omega)]
            refine wa_iload_n (pc := 98) (y := mX6_doAdd) dX6_doAdd_98 rfl ?_
            refine wa_bipush (pc := 99) (y := mX6_doAdd) (Int32.ofNat 12) dX6_doAdd_99 rfl ?_
            refine wa_icmp_ge (pc := 101) 122 dX6_doAdd_101 rfl (fun hb101 => absurd ((iN_le (by omega) (by omega)).mp hb101) (by omega)) (fun hb101 => ?_)
            first | refine wa_aload_n (pc := 104) (y := mX6_doAdd) dX6_doAdd_104 rfl ?_ | refine wa_aload_nN (pc := 104) (y := mX6_doAdd) dX6_doAdd_104 rfl ?_ | refine wa_aload_nq (pc := 104) (y := mX6_doAdd) dX6_doAdd_104 rfl ?_
            refine wa_getf (pc := 105) (y := mX6_doAdd) (k := 5) 0 dX6_doAdd_105 mH_o rfl q2643 (Or.inl rfl) (Nat.le_of_ble_eq_true rfl) (by rfl) ?_
            refine wa_iload_n (pc := 108) (y := mX6_doAdd) dX6_doAdd_108 rfl ?_
            refine wa_callS (pc := 109) (s_X6_at (d := d - 1)) dX6_doAdd_109 okX6_at q2727 q2728 rfl rfl (Nat.le_of_ble_eq_true rfl) (Nat.le_of_ble_eq_true rfl) (by omega) ?_
            rintro _ _ - - ⟨rfl, rfl⟩
            refine aft_v (pc2 := 112) ?_ rfl
            refine wa_iload_n (pc := 112) (y := mX6_doAdd) dX6_doAdd_112 rfl ?_
            first | with_reducible refine wa_iaddN (pc := 113) (y := mX6_doAdd) dX6_doAdd_113 ?_ | refine wa_iadd (pc := 113) (y := mX6_doAdd) dX6_doAdd_113 ?_
            refine wa_iconst (pc := 114) (y := mX6_doAdd) (Int32.ofNat 0) dX6_doAdd_114 rfl ?_
            refine wa_iastoreN (pc := 115) (y := mX6_doAdd) dX6_doAdd_115 mH_1 (by omega) ?_
            rw [mW_1]
            rw [es]
            first | with_reducible refine wa_iincN (pc := 116) (y := mX6_doAdd) dX6_doAdd_116 rfl (Nat.le_of_ble_eq_true rfl) rfl ?_ | refine wa_iinc (pc := 116) (y := mX6_doAdd) (1) dX6_doAdd_116 rfl rfl (Nat.le_of_ble_eq_true rfl) rfl ?_
            simp only [List.set_cons_zero, List.set_cons_succ]
            refine wa_goto (pc := 119) (y := mX6_doAdd) 98 dX6_doAdd_119 rfl ?_
            exact ih (c + 1) (by omega)
        first | refine wa_aload_n (pc := 64) (y := mX6_doAdd) dX6_doAdd_64 rfl ?_ | refine wa_aload_nN (pc := 64) (y := mX6_doAdd) dX6_doAdd_64 rfl ?_ | refine wa_aload_nq (pc := 64) (y := mX6_doAdd) dX6_doAdd_64 rfl ?_
        refine wa_getf (pc := 65) (y := mX6_doAdd) (k := 5) 0 dX6_doAdd_65 mH_o rfl q2643 (Or.inl rfl) (Nat.le_of_ble_eq_true rfl) (by rfl) ?_
        refine wa_iload_n (pc := 68) (y := mX6_doAdd) dX6_doAdd_68 rfl ?_
        refine wa_callS (pc := 69) (s_X6_at (d := d - 1)) dX6_doAdd_69 okX6_at q2727 q2728 rfl rfl (Nat.le_of_ble_eq_true rfl) (Nat.le_of_ble_eq_true rfl) (by omega) ?_
        rintro _ _ - - ⟨rfl, rfl⟩
        refine aft_v (pc2 := 72) ?_ rfl
        first | refine wa_aload_n (pc := 72) (y := mX6_doAdd) dX6_doAdd_72 rfl ?_ | refine wa_aload_nN (pc := 72) (y := mX6_doAdd) dX6_doAdd_72 rfl ?_ | refine wa_aload_nq (pc := 72) (y := mX6_doAdd) dX6_doAdd_72 rfl ?_
        refine wa_getf (pc := 73) (y := mX6_doAdd) (k := 5) 0 dX6_doAdd_73 mH_o rfl q2643 (Or.inl rfl) (Nat.le_of_ble_eq_true rfl) (by rfl) ?_
        refine wa_iload_n (pc := 76) (y := mX6_doAdd) dX6_doAdd_76 rfl ?_
        refine wa_iconst (pc := 77) (y := mX6_doAdd) (Int32.ofNat 1) dX6_doAdd_77 rfl ?_
        first | with_reducible refine wa_iaddN (pc := 78) (y := mX6_doAdd) dX6_doAdd_78 ?_ | refine wa_iadd (pc := 78) (y := mX6_doAdd) dX6_doAdd_78 ?_
        refine wa_callS (pc := 79) (s_X6_at (d := d - 1)) dX6_doAdd_79 okX6_at q2727 q2728 rfl rfl (Nat.le_of_ble_eq_true rfl) (Nat.le_of_ble_eq_true rfl) (by omega) ?_
        rintro _ _ - - ⟨rfl, rfl⟩
        refine aft_v (pc2 := 82) ?_ rfl
        refine wa_bipush (pc := 82) (y := mX6_doAdd) (Int32.ofNat 12) dX6_doAdd_82 rfl ?_
        first | refine wa_aload_n (pc := 84) (y := mX6_doAdd) dX6_doAdd_84 rfl ?_ | refine wa_aload_nN (pc := 84) (y := mX6_doAdd) dX6_doAdd_84 rfl ?_ | refine wa_aload_nq (pc := 84) (y := mX6_doAdd) dX6_doAdd_84 rfl ?_
        refine wa_getf (pc := 85) (y := mX6_doAdd) (k := 5) 0 dX6_doAdd_85 mH_o rfl q2643 (Or.inl rfl) (Nat.le_of_ble_eq_true rfl) (by rfl) ?_
        refine wa_iconst (pc := 88) (y := mX6_doAdd) (Int32.ofNat 0) dX6_doAdd_88 rfl ?_
        refine wa_ialoadU (pc := 89) (y := mX6_doAdd) dX6_doAdd_89 mH_1 (by omega) ?_
        refine wa_iload_n (pc := 90) (y := mX6_doAdd) dX6_doAdd_90 rfl ?_
        refine wa_isubN (pc := 91) (y := mX6_doAdd) dX6_doAdd_91 (by omega) ?_
        first | with_reducible refine wa_imulN (pc := 92) (y := mX6_doAdd) dX6_doAdd_92 ?_ | refine wa_imul (pc := 92) (y := mX6_doAdd) dX6_doAdd_92 ?_
        refine wa_copyN (pc := 93) dX6_doAdd_93 q2711 q352 q351 q96 mH_1 mH_1 (by omega) (Nat.le_of_ble_eq_true rfl) (by omega) ?_
        rw [mW_1]
        refine wa_iconst (pc := 96) (y := mX6_doAdd) (Int32.ofNat 0) dX6_doAdd_96 rfl ?_
        refine wa_istore_n (pc := 97) (y := mX6_doAdd) dX6_doAdd_97 (Nat.le_of_ble_eq_true rfl) rfl ?_
        change WA _ _ _ _ (List.set _ 3 _) _ _ _
        simp only [List.set_cons_zero, List.set_cons_succ]
        have hz := zk 12 0 (by omega)
        rw [show zrF (cpF f f (18 + 12 * p) (18 + 12 * (p + 1)) (12 * (u (f 0) - p))) (18 + 12 * p) 0 = cpF f f (18 + 12 * p) (18 + 12 * (p + 1)) (12 * (u (f 0) - p)) from funext fun j => if_neg (by omega)] at hz
        exact hz
      have lp : ∀ t k, k + t = u (f 0) → ipg f n t k = ip f n → WA G d mX6_doAdd 35 [.ref m, .int n, .int (Int32.ofNat k), .retAddr 0] [] (mH h m f σ) (fun r h' => r = .inl (some (.int (Int32.ofNat 0))) ∧ h' = mH h m (adF f n (ip f n)) σ) := by
        intro t
        induction t with
        | zero =>
          intro k hk he
          replace hk : k + 0 = u (f 0) := hk
          refine wa_iload_n (pc := 35) (y := mX6_doAdd) dX6_doAdd_35 rfl ?_
          first | refine wa_aload_n (pc := 36) (y := mX6_doAdd) dX6_doAdd_36 rfl ?_ | refine wa_aload_nN (pc := 36) (y := mX6_doAdd) dX6_doAdd_36 rfl ?_ | refine wa_aload_nq (pc := 36) (y := mX6_doAdd) dX6_doAdd_36 rfl ?_
          refine wa_getf (pc := 37) (y := mX6_doAdd) (k := 5) 0 dX6_doAdd_37 mH_o rfl q2643 (Or.inl rfl) (Nat.le_of_ble_eq_true rfl) (by rfl) ?_
          refine wa_iconst (pc := 40) (y := mX6_doAdd) (Int32.ofNat 0) dX6_doAdd_40 rfl ?_
          refine wa_ialoadU (pc := 41) (y := mX6_doAdd) dX6_doAdd_41 mH_1 (by omega) ?_
          refine wa_icmp_ge (pc := 42) 64 dX6_doAdd_42 rfl (fun hb42 => ?_) (fun hb42 => absurd ((iN_le (by omega) (by omega)).mpr (by omega)) hb42)
          rw [show k = ip f n from he]
          exact fin
        | succ t ih =>
          intro k hk he
          unfold ipg at he
          refine wa_iload_n (pc := 35) (y := mX6_doAdd) dX6_doAdd_35 rfl ?_
          first | refine wa_aload_n (pc := 36) (y := mX6_doAdd) dX6_doAdd_36 rfl ?_ | refine wa_aload_nN (pc := 36) (y := mX6_doAdd) dX6_doAdd_36 rfl ?_ | refine wa_aload_nq (pc := 36) (y := mX6_doAdd) dX6_doAdd_36 rfl ?_
          refine wa_getf (pc := 37) (y := mX6_doAdd) (k := 5) 0 dX6_doAdd_37 mH_o rfl q2643 (Or.inl rfl) (Nat.le_of_ble_eq_true rfl) (by rfl) ?_
          refine wa_iconst (pc := 40) (y := mX6_doAdd) (Int32.ofNat 0) dX6_doAdd_40 rfl ?_
          refine wa_ialoadU (pc := 41) (y := mX6_doAdd) dX6_doAdd_41 mH_1 (by omega) ?_
          refine wa_icmp_ge (pc := 42) 64 dX6_doAdd_42 rfl (fun hb42 => absurd ((iN_le (by omega) (by omega)).mp hb42) (by omega)) (fun hb42 => ?_)
          first | refine wa_aload_n (pc := 45) (y := mX6_doAdd) dX6_doAdd_45 rfl ?_ | refine wa_aload_nN (pc := 45) (y := mX6_doAdd) dX6_doAdd_45 rfl ?_ | refine wa_aload_nq (pc := 45) (y := mX6_doAdd) dX6_doAdd_45 rfl ?_
          refine wa_getf (pc := 46) (y := mX6_doAdd) (k := 5) 0 dX6_doAdd_46 mH_o rfl q2643 (Or.inl rfl) (Nat.le_of_ble_eq_true rfl) (by rfl) ?_
          refine wa_iload_n (pc := 49) (y := mX6_doAdd) dX6_doAdd_49 rfl ?_
          refine wa_callS (pc := 50) (s_X6_at (d := d - 1)) dX6_doAdd_50 okX6_at q2727 q2728 rfl rfl (Nat.le_of_ble_eq_true rfl) (Nat.le_of_ble_eq_true rfl) (by omega) ?_
          rintro _ _ - - ⟨rfl, rfl⟩
          refine aft_v (pc2 := 53) ?_ rfl
          refine wa_ialoadN (pc := 53) (y := mX6_doAdd) dX6_doAdd_53 mH_1 (by omega) ?_
          refine wa_iload_n (pc := 54) (y := mX6_doAdd) dX6_doAdd_54 rfl ?_
          refine wa_icmp_ge (pc := 55) 64 dX6_doAdd_55 rfl (fun hb55 => ?_) (fun hb55 => ?_)
          · rw [if_neg (Int32.not_lt.mpr hb55)] at he
            rw [he]
            exact fin
          · rw [if_pos (Int32.not_le.mp hb55)] at he
            first | with_reducible refine wa_iincN (pc := 58) (y := mX6_doAdd) dX6_doAdd_58 rfl (Nat.le_of_ble_eq_true rfl) rfl ?_ | refine wa_iinc (pc := 58) (y := mX6_doAdd) (1) dX6_doAdd_58 rfl rfl (Nat.le_of_ble_eq_true rfl) rfl ?_
            simp only [List.set_cons_zero, List.set_cons_succ]
            refine wa_goto (pc := 61) (y := mX6_doAdd) 35 dX6_doAdd_61 rfl ?_
            exact ih (k + 1) (by omega) he
      first | refine wa_aload_n (pc := 20) (y := mX6_doAdd) dX6_doAdd_20 rfl ?_ | refine wa_aload_nN (pc := 20) (y := mX6_doAdd) dX6_doAdd_20 rfl ?_ | refine wa_aload_nq (pc := 20) (y := mX6_doAdd) dX6_doAdd_20 rfl ?_
      refine wa_getf (pc := 21) (y := mX6_doAdd) (k := 5) 0 dX6_doAdd_21 mH_o rfl q2643 (Or.inl rfl) (Nat.le_of_ble_eq_true rfl) (by rfl) ?_
      refine wa_iconst (pc := 24) (y := mX6_doAdd) (Int32.ofNat 0) dX6_doAdd_24 rfl ?_
      refine wa_ialoadU (pc := 25) (y := mX6_doAdd) dX6_doAdd_25 mH_1 (by omega) ?_
      refine wa_bipush (pc := 26) (y := mX6_doAdd) (Int32.ofNat 12) dX6_doAdd_26 rfl ?_
      refine wa_icmp_ne (pc := 28) 33 dX6_doAdd_28 rfl (fun hb28 => ?_) (fun hb28 => absurd ((iN_eq (by omega) (by omega)).mp hb28) e4)
      refine wa_iconst (pc := 33) (y := mX6_doAdd) (Int32.ofNat 0) dX6_doAdd_33 rfl ?_
      refine wa_istore_n (pc := 34) (y := mX6_doAdd) dX6_doAdd_34 (Nat.le_of_ble_eq_true rfl) rfl ?_
      change WA _ _ _ _ (List.set _ 2 _) _ _ _
      simp only [List.set_cons_zero, List.set_cons_succ]
      exact lp (u (f 0)) 0 (by omega) rfl
theorem s_X6_give {cue ch lev part : Int32} (hd : 1 ≤ d) (hI : Inv f) (hg : gv f cue ch = none → u (f 1) < 60) : MA G d mX6_give [.ref m, .int cue, .int ch, .int lev, .int part] (mH h m f σ) (fun r h' => r = .inl none ∧ h' = mH h m (giF f cue ch lev part) σ) := by
  have hi := hI.2.1
  show WA _ _ _ 0 [.ref m, .int _, .int _, .int _, .int _, .retAddr 0, .retAddr 0] [] _ _
  unfold giF giM giK
  cases eg : gv f cue ch with
  | none =>
    have hg := hg eg
    first | refine wa_aload_n (pc := 0) (y := mX6_give) dX6_give_0 rfl ?_ | refine wa_aload_nN (pc := 0) (y := mX6_give) dX6_give_0 rfl ?_ | refine wa_aload_nq (pc := 0) (y := mX6_give) dX6_give_0 rfl ?_
    refine wa_iload_n (pc := 1) (y := mX6_give) dX6_give_1 rfl ?_
    refine wa_iload_n (pc := 2) (y := mX6_give) dX6_give_2 rfl ?_
    refine wa_callV (pc := 3) (s_X6_given (d := d - 1) hI) dX6_give_3 okX6_given q2758 q2760 qs47 mH_o rfl rfl rfl (Nat.le_of_ble_eq_true rfl) (Nat.le_of_ble_eq_true rfl) (by omega) ?_
    rintro _ _ - - ⟨rfl, rfl⟩
    refine aft_v (pc2 := 6) ?_ rfl
    rw [eg, oI_none]
    refine wa_istore (pc := 6) (y := mX6_give) dX6_give_6 (Nat.le_of_ble_eq_true rfl) rfl ?_
    simp only [List.set_cons_zero, List.set_cons_succ]
    refine wa_iload (pc := 8) (y := mX6_give) dX6_give_8 rfl ?_
    refine wa_if_ge (pc := 10) 31 dX6_give_10 rfl (fun hb10 => absurd hb10 (by decide)) (fun hb10 => ?_)
    first | refine wa_aload_n (pc := 13) (y := mX6_give) dX6_give_13 rfl ?_ | refine wa_aload_nN (pc := 13) (y := mX6_give) dX6_give_13 rfl ?_ | refine wa_aload_nq (pc := 13) (y := mX6_give) dX6_give_13 rfl ?_
    refine wa_getf (pc := 14) (y := mX6_give) (k := 5) 0 dX6_give_14 mH_o rfl q2643 (Or.inl rfl) (Nat.le_of_ble_eq_true rfl) (by rfl) ?_
    refine wa_iconst (pc := 17) (y := mX6_give) (Int32.ofNat 1) dX6_give_17 rfl ?_
    refine wa_ialoadU (pc := 18) (y := mX6_give) dX6_give_18 mH_1 (by omega) ?_
    refine wa_istore (pc := 19) (y := mX6_give) dX6_give_19 (Nat.le_of_ble_eq_true rfl) rfl ?_
    simp only [List.set_cons_zero, List.set_cons_succ]
    first | refine wa_aload_n (pc := 21) (y := mX6_give) dX6_give_21 rfl ?_ | refine wa_aload_nN (pc := 21) (y := mX6_give) dX6_give_21 rfl ?_ | refine wa_aload_nq (pc := 21) (y := mX6_give) dX6_give_21 rfl ?_
    refine wa_getf (pc := 22) (y := mX6_give) (k := 5) 0 dX6_give_22 mH_o rfl q2643 (Or.inl rfl) (Nat.le_of_ble_eq_true rfl) (by rfl) ?_
    refine wa_iconst (pc := 25) (y := mX6_give) (Int32.ofNat 1) dX6_give_25 rfl ?_
    refine wa_dup2 (pc := 26) (y := mX6_give) dX6_give_26 rfl rfl ?_
    refine wa_ialoadU (pc := 27) (y := mX6_give) dX6_give_27 mH_1 (by omega) ?_
    refine wa_iconst (pc := 28) (y := mX6_give) (Int32.ofNat 1) dX6_give_28 rfl ?_
    first | with_reducible refine wa_iaddN (pc := 29) (y := mX6_give) dX6_give_29 ?_ | refine wa_iadd (pc := 29) (y := mX6_give) dX6_give_29 ?_
    refine wa_iastoreN (pc := 30) (y := mX6_give) dX6_give_30 mH_1 (by omega) ?_
    rw [mW_1]
    refine wa_sipush (pc := 31) (y := mX6_give) (Int32.ofNat 162) dX6_give_31 rfl ?_
    refine wa_iconst (pc := 34) (y := mX6_give) (Int32.ofNat 4) dX6_give_34 rfl ?_
    refine wa_iload (pc := 35) (y := mX6_give) dX6_give_35 rfl ?_
    first | with_reducible refine wa_imulN (pc := 37) (y := mX6_give) dX6_give_37 ?_ | refine wa_imul (pc := 37) (y := mX6_give) dX6_give_37 ?_
    first | with_reducible refine wa_iaddN (pc := 38) (y := mX6_give) dX6_give_38 ?_ | refine wa_iadd (pc := 38) (y := mX6_give) dX6_give_38 ?_
    refine wa_istore (pc := 39) (y := mX6_give) dX6_give_39 (Nat.le_of_ble_eq_true rfl) rfl ?_
    simp only [List.set_cons_zero, List.set_cons_succ]
    first | refine wa_aload_n (pc := 41) (y := mX6_give) dX6_give_41 rfl ?_ | refine wa_aload_nN (pc := 41) (y := mX6_give) dX6_give_41 rfl ?_ | refine wa_aload_nq (pc := 41) (y := mX6_give) dX6_give_41 rfl ?_
    refine wa_getf (pc := 42) (y := mX6_give) (k := 5) 0 dX6_give_42 mH_o rfl q2643 (Or.inl rfl) (Nat.le_of_ble_eq_true rfl) (by rfl) ?_
    refine wa_iload (pc := 45) (y := mX6_give) dX6_give_45 rfl ?_
    refine wa_iload_n (pc := 47) (y := mX6_give) dX6_give_47 rfl ?_
    refine wa_iastoreN (pc := 48) (y := mX6_give) dX6_give_48 mH_1 (by omega) ?_
    rw [mW_1]
    first | refine wa_aload_n (pc := 49) (y := mX6_give) dX6_give_49 rfl ?_ | refine wa_aload_nN (pc := 49) (y := mX6_give) dX6_give_49 rfl ?_ | refine wa_aload_nq (pc := 49) (y := mX6_give) dX6_give_49 rfl ?_
    refine wa_getf (pc := 50) (y := mX6_give) (k := 5) 0 dX6_give_50 mH_o rfl q2643 (Or.inl rfl) (Nat.le_of_ble_eq_true rfl) (by rfl) ?_
    refine wa_iload (pc := 53) (y := mX6_give) dX6_give_53 rfl ?_
    refine wa_iconst (pc := 55) (y := mX6_give) (Int32.ofNat 1) dX6_give_55 rfl ?_
    first | with_reducible refine wa_iaddN (pc := 56) (y := mX6_give) dX6_give_56 ?_ | refine wa_iadd (pc := 56) (y := mX6_give) dX6_give_56 ?_
    refine wa_iload_n (pc := 57) (y := mX6_give) dX6_give_57 rfl ?_
    refine wa_iastoreN (pc := 58) (y := mX6_give) dX6_give_58 mH_1 (by omega) ?_
    rw [mW_1]
    first | refine wa_aload_n (pc := 59) (y := mX6_give) dX6_give_59 rfl ?_ | refine wa_aload_nN (pc := 59) (y := mX6_give) dX6_give_59 rfl ?_ | refine wa_aload_nq (pc := 59) (y := mX6_give) dX6_give_59 rfl ?_
    refine wa_getf (pc := 60) (y := mX6_give) (k := 5) 0 dX6_give_60 mH_o rfl q2643 (Or.inl rfl) (Nat.le_of_ble_eq_true rfl) (by rfl) ?_
    refine wa_iload (pc := 63) (y := mX6_give) dX6_give_63 rfl ?_
    refine wa_iconst (pc := 65) (y := mX6_give) (Int32.ofNat 2) dX6_give_65 rfl ?_
    first | with_reducible refine wa_iaddN (pc := 66) (y := mX6_give) dX6_give_66 ?_ | refine wa_iadd (pc := 66) (y := mX6_give) dX6_give_66 ?_
    refine wa_iload_n (pc := 67) (y := mX6_give) dX6_give_67 rfl ?_
    refine wa_iastoreN (pc := 68) (y := mX6_give) dX6_give_68 mH_1 (by omega) ?_
    rw [mW_1]
    first | refine wa_aload_n (pc := 69) (y := mX6_give) dX6_give_69 rfl ?_ | refine wa_aload_nN (pc := 69) (y := mX6_give) dX6_give_69 rfl ?_ | refine wa_aload_nq (pc := 69) (y := mX6_give) dX6_give_69 rfl ?_
    refine wa_getf (pc := 70) (y := mX6_give) (k := 5) 0 dX6_give_70 mH_o rfl q2643 (Or.inl rfl) (Nat.le_of_ble_eq_true rfl) (by rfl) ?_
    refine wa_iload (pc := 73) (y := mX6_give) dX6_give_73 rfl ?_
    refine wa_iconst (pc := 75) (y := mX6_give) (Int32.ofNat 3) dX6_give_75 rfl ?_
    first | with_reducible refine wa_iaddN (pc := 76) (y := mX6_give) dX6_give_76 ?_ | refine wa_iadd (pc := 76) (y := mX6_give) dX6_give_76 ?_
    refine wa_iload (pc := 77) (y := mX6_give) dX6_give_77 rfl ?_
    refine wa_iastoreN (pc := 79) (y := mX6_give) dX6_give_79 mH_1 (by omega) ?_
    rw [mW_1]
    exact wa_return (pc := 80) (y := mX6_give) dX6_give_80 rfl ⟨rfl, rfl⟩
  | some i =>
    have hs := gv_some eg
    first | refine wa_aload_n (pc := 0) (y := mX6_give) dX6_give_0 rfl ?_ | refine wa_aload_nN (pc := 0) (y := mX6_give) dX6_give_0 rfl ?_ | refine wa_aload_nq (pc := 0) (y := mX6_give) dX6_give_0 rfl ?_
    refine wa_iload_n (pc := 1) (y := mX6_give) dX6_give_1 rfl ?_
    refine wa_iload_n (pc := 2) (y := mX6_give) dX6_give_2 rfl ?_
    refine wa_callV (pc := 3) (s_X6_given (d := d - 1) hI) dX6_give_3 okX6_given q2758 q2760 qs47 mH_o rfl rfl rfl (Nat.le_of_ble_eq_true rfl) (Nat.le_of_ble_eq_true rfl) (by omega) ?_
    rintro _ _ - - ⟨rfl, rfl⟩
    refine aft_v (pc2 := 6) ?_ rfl
    rw [eg, oI_some]
    refine wa_istore (pc := 6) (y := mX6_give) dX6_give_6 (Nat.le_of_ble_eq_true rfl) rfl ?_
    simp only [List.set_cons_zero, List.set_cons_succ]
    refine wa_iload (pc := 8) (y := mX6_give) dX6_give_8 rfl ?_
    refine wa_if_ge (pc := 10) 31 dX6_give_10 rfl (fun hb10 => ?_) (fun hb10 => absurd ((iN_le (a := 0) (by omega) (by omega)).mpr (by omega)) hb10)
    refine wa_sipush (pc := 31) (y := mX6_give) (Int32.ofNat 162) dX6_give_31 rfl ?_
    refine wa_iconst (pc := 34) (y := mX6_give) (Int32.ofNat 4) dX6_give_34 rfl ?_
    refine wa_iload (pc := 35) (y := mX6_give) dX6_give_35 rfl ?_
    first | with_reducible refine wa_imulN (pc := 37) (y := mX6_give) dX6_give_37 ?_ | refine wa_imul (pc := 37) (y := mX6_give) dX6_give_37 ?_
    first | with_reducible refine wa_iaddN (pc := 38) (y := mX6_give) dX6_give_38 ?_ | refine wa_iadd (pc := 38) (y := mX6_give) dX6_give_38 ?_
    refine wa_istore (pc := 39) (y := mX6_give) dX6_give_39 (Nat.le_of_ble_eq_true rfl) rfl ?_
    simp only [List.set_cons_zero, List.set_cons_succ]
    first | refine wa_aload_n (pc := 41) (y := mX6_give) dX6_give_41 rfl ?_ | refine wa_aload_nN (pc := 41) (y := mX6_give) dX6_give_41 rfl ?_ | refine wa_aload_nq (pc := 41) (y := mX6_give) dX6_give_41 rfl ?_
    refine wa_getf (pc := 42) (y := mX6_give) (k := 5) 0 dX6_give_42 mH_o rfl q2643 (Or.inl rfl) (Nat.le_of_ble_eq_true rfl) (by rfl) ?_
    refine wa_iload (pc := 45) (y := mX6_give) dX6_give_45 rfl ?_
    refine wa_iload_n (pc := 47) (y := mX6_give) dX6_give_47 rfl ?_
    refine wa_iastoreN (pc := 48) (y := mX6_give) dX6_give_48 mH_1 (by omega) ?_
    rw [mW_1]
    first | refine wa_aload_n (pc := 49) (y := mX6_give) dX6_give_49 rfl ?_ | refine wa_aload_nN (pc := 49) (y := mX6_give) dX6_give_49 rfl ?_ | refine wa_aload_nq (pc := 49) (y := mX6_give) dX6_give_49 rfl ?_
    refine wa_getf (pc := 50) (y := mX6_give) (k := 5) 0 dX6_give_50 mH_o rfl q2643 (Or.inl rfl) (Nat.le_of_ble_eq_true rfl) (by rfl) ?_
    refine wa_iload (pc := 53) (y := mX6_give) dX6_give_53 rfl ?_
    refine wa_iconst (pc := 55) (y := mX6_give) (Int32.ofNat 1) dX6_give_55 rfl ?_
    first | with_reducible refine wa_iaddN (pc := 56) (y := mX6_give) dX6_give_56 ?_ | refine wa_iadd (pc := 56) (y := mX6_give) dX6_give_56 ?_
    refine wa_iload_n (pc := 57) (y := mX6_give) dX6_give_57 rfl ?_
    refine wa_iastoreN (pc := 58) (y := mX6_give) dX6_give_58 mH_1 (by omega) ?_
    rw [mW_1]
    first | refine wa_aload_n (pc := 59) (y := mX6_give) dX6_give_59 rfl ?_ | refine wa_aload_nN (pc := 59) (y := mX6_give) dX6_give_59 rfl ?_ | refine wa_aload_nq (pc := 59) (y := mX6_give) dX6_give_59 rfl ?_
    refine wa_getf (pc := 60) (y := mX6_give) (k := 5) 0 dX6_give_60 mH_o rfl q2643 (Or.inl rfl) (Nat.le_of_ble_eq_true rfl) (by rfl) ?_
    refine wa_iload (pc := 63) (y := mX6_give) dX6_give_63 rfl ?_
    refine wa_iconst (pc := 65) (y := mX6_give) (Int32.ofNat 2) dX6_give_65 rfl ?_
    first | with_reducible refine wa_iaddN (pc := 66) (y := mX6_give) dX6_give_66 ?_ | refine wa_iadd (pc := 66) (y := mX6_give) dX6_give_66 ?_
    refine wa_iload_n (pc := 67) (y := mX6_give) dX6_give_67 rfl ?_
    refine wa_iastoreN (pc := 68) (y := mX6_give) dX6_give_68 mH_1 (by omega) ?_
    rw [mW_1]
    first | refine wa_aload_n (pc := 69) (y := mX6_give) dX6_give_69 rfl ?_ | refine wa_aload_nN (pc := 69) (y := mX6_give) dX6_give_69 rfl ?_ | refine wa_aload_nq (pc := 69) (y := mX6_give) dX6_give_69 rfl ?_
    refine wa_getf (pc := 70) (y := mX6_give) (k := 5) 0 dX6_give_70 mH_o rfl q2643 (Or.inl rfl) (Nat.le_of_ble_eq_true rfl) (by rfl) ?_
    refine wa_iload (pc := 73) (y := mX6_give) dX6_give_73 rfl ?_
    refine wa_iconst (pc := 75) (y := mX6_give) (Int32.ofNat 3) dX6_give_75 rfl ?_
    first | with_reducible refine wa_iaddN (pc := 76) (y := mX6_give) dX6_give_76 ?_ | refine wa_iadd (pc := 76) (y := mX6_give) dX6_give_76 ?_
    refine wa_iload (pc := 77) (y := mX6_give) dX6_give_77 rfl ?_
    refine wa_iastoreN (pc := 79) (y := mX6_give) dX6_give_79 mH_1 (by omega) ?_
    rw [mW_1]
    exact wa_return (pc := 80) (y := mX6_give) dX6_give_80 rfl ⟨rfl, rfl⟩
theorem s_X6_takeAway {k : Nat} (hd : 1 ≤ d) (hI : u (f 1) ≤ 60) (hk : k < u (f 1)) : MA G d mX6_takeAway [.ref m, .int (Int32.ofNat k)] (mH h m f σ) (fun r h' => r = .inl none ∧ h' = mH h m (tkF f k) σ) := by
  show WA _ _ _ 0 [.ref m, .int _] [] _ _
  unfold tkF
  first | refine wa_aload_n (pc := 0) (y := mX6_takeAway) dX6_takeAway_0 rfl ?_ | refine wa_aload_nN (pc := 0) (y := mX6_takeAway) dX6_takeAway_0 rfl ?_ | refine wa_aload_nq (pc := 0) (y := mX6_takeAway) dX6_takeAway_0 rfl ?_
  refine wa_getf (pc := 1) (y := mX6_takeAway) (k := 5) 0 dX6_takeAway_1 mH_o rfl q2643 (Or.inl rfl) (Nat.le_of_ble_eq_true rfl) (by rfl) ?_
  refine wa_iconst (pc := 4) (y := mX6_takeAway) (Int32.ofNat 1) dX6_takeAway_4 rfl ?_
  refine wa_dup2 (pc := 5) (y := mX6_takeAway) dX6_takeAway_5 rfl rfl ?_
  refine wa_ialoadU (pc := 6) (y := mX6_takeAway) dX6_takeAway_6 mH_1 (by omega) ?_
  refine wa_iconst (pc := 7) (y := mX6_takeAway) (Int32.ofNat 1) dX6_takeAway_7 rfl ?_
  refine wa_isubN (pc := 8) (y := mX6_takeAway) dX6_takeAway_8 (by omega) ?_
  refine wa_iastoreN (pc := 9) (y := mX6_takeAway) dX6_takeAway_9 mH_1 (by omega) ?_
  rw [mW_1]
  first | refine wa_aload_n (pc := 10) (y := mX6_takeAway) dX6_takeAway_10 rfl ?_ | refine wa_aload_nN (pc := 10) (y := mX6_takeAway) dX6_takeAway_10 rfl ?_ | refine wa_aload_nq (pc := 10) (y := mX6_takeAway) dX6_takeAway_10 rfl ?_
  refine wa_getf (pc := 11) (y := mX6_takeAway) (k := 5) 0 dX6_takeAway_11 mH_o rfl q2643 (Or.inl rfl) (Nat.le_of_ble_eq_true rfl) (by rfl) ?_
  refine wa_sipush (pc := 14) (y := mX6_takeAway) (Int32.ofNat 162) dX6_takeAway_14 rfl ?_
  refine wa_iconst (pc := 17) (y := mX6_takeAway) (Int32.ofNat 4) dX6_takeAway_17 rfl ?_
  refine wa_iload_n (pc := 18) (y := mX6_takeAway) dX6_takeAway_18 rfl ?_
  first | with_reducible refine wa_imulN (pc := 19) (y := mX6_takeAway) dX6_takeAway_19 ?_ | refine wa_imul (pc := 19) (y := mX6_takeAway) dX6_takeAway_19 ?_
  first | with_reducible refine wa_iaddN (pc := 20) (y := mX6_takeAway) dX6_takeAway_20 ?_ | refine wa_iadd (pc := 20) (y := mX6_takeAway) dX6_takeAway_20 ?_
  refine wa_iconst (pc := 21) (y := mX6_takeAway) (Int32.ofNat 4) dX6_takeAway_21 rfl ?_
  first | with_reducible refine wa_iaddN (pc := 22) (y := mX6_takeAway) dX6_takeAway_22 ?_ | refine wa_iadd (pc := 22) (y := mX6_takeAway) dX6_takeAway_22 ?_
  first | refine wa_aload_n (pc := 23) (y := mX6_takeAway) dX6_takeAway_23 rfl ?_ | refine wa_aload_nN (pc := 23) (y := mX6_takeAway) dX6_takeAway_23 rfl ?_ | refine wa_aload_nq (pc := 23) (y := mX6_takeAway) dX6_takeAway_23 rfl ?_
  refine wa_getf (pc := 24) (y := mX6_takeAway) (k := 5) 0 dX6_takeAway_24 mH_o rfl q2643 (Or.inl rfl) (Nat.le_of_ble_eq_true rfl) (by rfl) ?_
  refine wa_sipush (pc := 27) (y := mX6_takeAway) (Int32.ofNat 162) dX6_takeAway_27 rfl ?_
  refine wa_iconst (pc := 30) (y := mX6_takeAway) (Int32.ofNat 4) dX6_takeAway_30 rfl ?_
  refine wa_iload_n (pc := 31) (y := mX6_takeAway) dX6_takeAway_31 rfl ?_
  first | with_reducible refine wa_imulN (pc := 32) (y := mX6_takeAway) dX6_takeAway_32 ?_ | refine wa_imul (pc := 32) (y := mX6_takeAway) dX6_takeAway_32 ?_
  first | with_reducible refine wa_iaddN (pc := 33) (y := mX6_takeAway) dX6_takeAway_33 ?_ | refine wa_iadd (pc := 33) (y := mX6_takeAway) dX6_takeAway_33 ?_
  refine wa_iconst (pc := 34) (y := mX6_takeAway) (Int32.ofNat 4) dX6_takeAway_34 rfl ?_
  first | refine wa_aload_n (pc := 35) (y := mX6_takeAway) dX6_takeAway_35 rfl ?_ | refine wa_aload_nN (pc := 35) (y := mX6_takeAway) dX6_takeAway_35 rfl ?_ | refine wa_aload_nq (pc := 35) (y := mX6_takeAway) dX6_takeAway_35 rfl ?_
  refine wa_getf (pc := 36) (y := mX6_takeAway) (k := 5) 0 dX6_takeAway_36 mH_o rfl q2643 (Or.inl rfl) (Nat.le_of_ble_eq_true rfl) (by rfl) ?_
  refine wa_iconst (pc := 39) (y := mX6_takeAway) (Int32.ofNat 1) dX6_takeAway_39 rfl ?_
  refine wa_ialoadN (pc := 40) (y := mX6_takeAway) dX6_takeAway_40 mH_1 (by omega) ?_
  rw [upd_s]
  refine wa_iload_n (pc := 41) (y := mX6_takeAway) dX6_takeAway_41 rfl ?_
  refine wa_isubN (pc := 42) (y := mX6_takeAway) dX6_takeAway_42 (by omega) ?_
  first | with_reducible refine wa_imulN (pc := 43) (y := mX6_takeAway) dX6_takeAway_43 ?_ | refine wa_imul (pc := 43) (y := mX6_takeAway) dX6_takeAway_43 ?_
  refine wa_copyN (pc := 44) dX6_takeAway_44 q2711 q352 q351 q96 mH_1 mH_1 (by omega) (Nat.le_of_ble_eq_true rfl) (by omega) ?_
  rw [mW_1]
  exact wa_return (pc := 47) (y := mX6_takeAway) dX6_takeAway_47 rfl ⟨rfl, rfl⟩
theorem s_X6_wouldHoldProtected {p c : Nat} {lev : Int32} (hd : 3 ≤ d) (hI : Inv f) (hp : p < u (f 0)) (hc : c < 12) : MA G d mX6_wouldHoldProtected [.ref m, .int (Int32.ofNat p), .int (Int32.ofNat c), .int lev] (mH h m f σ) (fun r h' => r = .inl (some (.int (bI (decide (p + 1 < u (f 0)) && decide (f (18 + 12 * (p + 1) + 3) = 1) && !isBl f (p + 1) && (gv f (f (18 + 12 * (p + 1))) (Int32.ofNat c)).isNone && decide ((if lev = -1 then f (6 + c) else lev) ≠ lvN f c (p + 1)))))) ∧ h' = mH h m f σ) := by
  have hn := hI.1
  show WA _ _ _ 0 [.ref m, .int _, .int _, .int _, .retAddr 0, .retAddr 0, .retAddr 0] [] _ _
  have tail : ∀ (b : Bool), WA G d mX6_wouldHoldProtected 64 [.ref m, .int (Int32.ofNat p), .int (Int32.ofNat c), .int lev, .int (Int32.ofNat (p + 1)), .retAddr 0, .retAddr 0] [.int (bI b)] (mH h m f σ) (fun r h' => r = .inl (some (.int (bI (b && decide ((if lev = -1 then f (6 + c) else lev) ≠ lvN f c (p + 1)))))) ∧ h' = mH h m f σ) := by
    intro b
    refine wa_istore (pc := 64) (y := mX6_wouldHoldProtected) dX6_wouldHoldProtected_64 (Nat.le_of_ble_eq_true rfl) rfl ?_
    simp only [List.set_cons_zero, List.set_cons_succ]
    refine wa_iload_n (pc := 66) (y := mX6_wouldHoldProtected) dX6_wouldHoldProtected_66 rfl ?_
    refine wa_iconst (pc := 67) (y := mX6_wouldHoldProtected) (-1) dX6_wouldHoldProtected_67 rfl ?_
    refine wa_icmp_ne (pc := 68) 83 dX6_wouldHoldProtected_68 rfl (fun hb68 => ?_) (fun hb68 => ?_)
    · rw [if_neg hb68]
      refine wa_iload_n (pc := 83) (y := mX6_wouldHoldProtected) dX6_wouldHoldProtected_83 rfl ?_
      refine wa_istore (pc := 84) (y := mX6_wouldHoldProtected) dX6_wouldHoldProtected_84 (Nat.le_of_ble_eq_true rfl) rfl ?_
      simp only [List.set_cons_zero, List.set_cons_succ]
      refine wa_iload (pc := 86) (y := mX6_wouldHoldProtected) dX6_wouldHoldProtected_86 rfl ?_
      refine wa_if_eq (pc := 88) 106 dX6_wouldHoldProtected_88 rfl (fun hb88 => ?_) (fun hb88 => ?_)
      · refine wa_iconst (pc := 106) (y := mX6_wouldHoldProtected) (Int32.ofNat 0) dX6_wouldHoldProtected_106 rfl ?_
        exact wa_ireturn (pc := 107) (y := mX6_wouldHoldProtected) .boolean dX6_wouldHoldProtected_107 rfl rfl ⟨by first | (rw [bI_0.mp hb88]; rfl) | (rw [bI_n0 hb88, decide_eq_false (fun q => q hb99)]; rfl) | (rw [bI_n0 hb88, decide_eq_true hb99]; rfl), rfl⟩
      · refine wa_iload (pc := 91) (y := mX6_wouldHoldProtected) dX6_wouldHoldProtected_91 rfl ?_
        first | refine wa_aload_n (pc := 93) (y := mX6_wouldHoldProtected) dX6_wouldHoldProtected_93 rfl ?_ | refine wa_aload_nN (pc := 93) (y := mX6_wouldHoldProtected) dX6_wouldHoldProtected_93 rfl ?_ | refine wa_aload_nq (pc := 93) (y := mX6_wouldHoldProtected) dX6_wouldHoldProtected_93 rfl ?_
        refine wa_iload_n (pc := 94) (y := mX6_wouldHoldProtected) dX6_wouldHoldProtected_94 rfl ?_
        refine wa_iload_n (pc := 95) (y := mX6_wouldHoldProtected) dX6_wouldHoldProtected_95 rfl ?_
        refine wa_callV (pc := 96) (s_X6_levelIn (d := d - 1) (by omega) hI hp hc) dX6_wouldHoldProtected_96 okX6_levelIn q2754 q2756 qs46 mH_o rfl rfl rfl (Nat.le_of_ble_eq_true rfl) (Nat.le_of_ble_eq_true rfl) (by omega) ?_
        rintro _ _ - - ⟨rfl, rfl⟩
        refine aft_v (pc2 := 99) ?_ rfl
        refine wa_icmp_eq (pc := 99) 106 dX6_wouldHoldProtected_99 rfl (fun hb99 => ?_) (fun hb99 => ?_)
        · refine wa_iconst (pc := 106) (y := mX6_wouldHoldProtected) (Int32.ofNat 0) dX6_wouldHoldProtected_106 rfl ?_
          exact wa_ireturn (pc := 107) (y := mX6_wouldHoldProtected) .boolean dX6_wouldHoldProtected_107 rfl rfl ⟨by first | (rw [bI_0.mp hb88]; rfl) | (rw [bI_n0 hb88, decide_eq_false (fun q => q hb99)]; rfl) | (rw [bI_n0 hb88, decide_eq_true hb99]; rfl), rfl⟩
        · refine wa_iconst (pc := 102) (y := mX6_wouldHoldProtected) (Int32.ofNat 1) dX6_wouldHoldProtected_102 rfl ?_
          refine wa_goto (pc := 103) (y := mX6_wouldHoldProtected) 107 dX6_wouldHoldProtected_103 rfl ?_
          exact wa_ireturn (pc := 107) (y := mX6_wouldHoldProtected) .boolean dX6_wouldHoldProtected_107 rfl rfl ⟨by first | (rw [bI_0.mp hb88]; rfl) | (rw [bI_n0 hb88, decide_eq_false (fun q => q hb99)]; rfl) | (rw [bI_n0 hb88, decide_eq_true hb99]; rfl), rfl⟩
    · rw [if_pos hb68]
      first | refine wa_aload_n (pc := 71) (y := mX6_wouldHoldProtected) dX6_wouldHoldProtected_71 rfl ?_ | refine wa_aload_nN (pc := 71) (y := mX6_wouldHoldProtected) dX6_wouldHoldProtected_71 rfl ?_ | refine wa_aload_nq (pc := 71) (y := mX6_wouldHoldProtected) dX6_wouldHoldProtected_71 rfl ?_
      refine wa_getf (pc := 72) (y := mX6_wouldHoldProtected) (k := 5) 0 dX6_wouldHoldProtected_72 mH_o rfl q2643 (Or.inl rfl) (Nat.le_of_ble_eq_true rfl) (by rfl) ?_
      refine wa_bipush (pc := 75) (y := mX6_wouldHoldProtected) (Int32.ofNat 6) dX6_wouldHoldProtected_75 rfl ?_
      refine wa_iload_n (pc := 77) (y := mX6_wouldHoldProtected) dX6_wouldHoldProtected_77 rfl ?_
      first | with_reducible refine wa_iaddN (pc := 78) (y := mX6_wouldHoldProtected) dX6_wouldHoldProtected_78 ?_ | refine wa_iadd (pc := 78) (y := mX6_wouldHoldProtected) dX6_wouldHoldProtected_78 ?_
      refine wa_ialoadN (pc := 79) (y := mX6_wouldHoldProtected) dX6_wouldHoldProtected_79 mH_1 (by omega) ?_
      refine wa_goto (pc := 80) (y := mX6_wouldHoldProtected) 84 dX6_wouldHoldProtected_80 rfl ?_
      refine wa_istore (pc := 84) (y := mX6_wouldHoldProtected) dX6_wouldHoldProtected_84 (Nat.le_of_ble_eq_true rfl) rfl ?_
      simp only [List.set_cons_zero, List.set_cons_succ]
      refine wa_iload (pc := 86) (y := mX6_wouldHoldProtected) dX6_wouldHoldProtected_86 rfl ?_
      refine wa_if_eq (pc := 88) 106 dX6_wouldHoldProtected_88 rfl (fun hb88 => ?_) (fun hb88 => ?_)
      · refine wa_iconst (pc := 106) (y := mX6_wouldHoldProtected) (Int32.ofNat 0) dX6_wouldHoldProtected_106 rfl ?_
        exact wa_ireturn (pc := 107) (y := mX6_wouldHoldProtected) .boolean dX6_wouldHoldProtected_107 rfl rfl ⟨by first | (rw [bI_0.mp hb88]; rfl) | (rw [bI_n0 hb88, decide_eq_false (fun q => q hb99)]; rfl) | (rw [bI_n0 hb88, decide_eq_true hb99]; rfl), rfl⟩
      · refine wa_iload (pc := 91) (y := mX6_wouldHoldProtected) dX6_wouldHoldProtected_91 rfl ?_
        first | refine wa_aload_n (pc := 93) (y := mX6_wouldHoldProtected) dX6_wouldHoldProtected_93 rfl ?_ | refine wa_aload_nN (pc := 93) (y := mX6_wouldHoldProtected) dX6_wouldHoldProtected_93 rfl ?_ | refine wa_aload_nq (pc := 93) (y := mX6_wouldHoldProtected) dX6_wouldHoldProtected_93 rfl ?_
        refine wa_iload_n (pc := 94) (y := mX6_wouldHoldProtected) dX6_wouldHoldProtected_94 rfl ?_
        refine wa_iload_n (pc := 95) (y := mX6_wouldHoldProtected) dX6_wouldHoldProtected_95 rfl ?_
        refine wa_callV (pc := 96) (s_X6_levelIn (d := d - 1) (by omega) hI hp hc) dX6_wouldHoldProtected_96 okX6_levelIn q2754 q2756 qs46 mH_o rfl rfl rfl (Nat.le_of_ble_eq_true rfl) (Nat.le_of_ble_eq_true rfl) (by omega) ?_
        rintro _ _ - - ⟨rfl, rfl⟩
        refine aft_v (pc2 := 99) ?_ rfl
        refine wa_icmp_eq (pc := 99) 106 dX6_wouldHoldProtected_99 rfl (fun hb99 => ?_) (fun hb99 => ?_)
        · refine wa_iconst (pc := 106) (y := mX6_wouldHoldProtected) (Int32.ofNat 0) dX6_wouldHoldProtected_106 rfl ?_
          exact wa_ireturn (pc := 107) (y := mX6_wouldHoldProtected) .boolean dX6_wouldHoldProtected_107 rfl rfl ⟨by first | (rw [bI_0.mp hb88]; rfl) | (rw [bI_n0 hb88, decide_eq_false (fun q => q hb99)]; rfl) | (rw [bI_n0 hb88, decide_eq_true hb99]; rfl), rfl⟩
        · refine wa_iconst (pc := 102) (y := mX6_wouldHoldProtected) (Int32.ofNat 1) dX6_wouldHoldProtected_102 rfl ?_
          refine wa_goto (pc := 103) (y := mX6_wouldHoldProtected) 107 dX6_wouldHoldProtected_103 rfl ?_
          exact wa_ireturn (pc := 107) (y := mX6_wouldHoldProtected) .boolean dX6_wouldHoldProtected_107 rfl rfl ⟨by first | (rw [bI_0.mp hb88]; rfl) | (rw [bI_n0 hb88, decide_eq_false (fun q => q hb99)]; rfl) | (rw [bI_n0 hb88, decide_eq_true hb99]; rfl), rfl⟩
  by_cases e1 : p + 1 < u (f 0)
  · by_cases e2 : f (18 + 12 * (p + 1) + 3) = 1
    · cases e3 : isBl f (p + 1) with
      | true =>
        refine wa_iload_n (pc := 0) (y := mX6_wouldHoldProtected) dX6_wouldHoldProtected_0 rfl ?_
        refine wa_iconst (pc := 1) (y := mX6_wouldHoldProtected) (Int32.ofNat 1) dX6_wouldHoldProtected_1 rfl ?_
        first | with_reducible refine wa_iaddN (pc := 2) (y := mX6_wouldHoldProtected) dX6_wouldHoldProtected_2 ?_ | refine wa_iadd (pc := 2) (y := mX6_wouldHoldProtected) dX6_wouldHoldProtected_2 ?_
        refine wa_istore (pc := 3) (y := mX6_wouldHoldProtected) dX6_wouldHoldProtected_3 (Nat.le_of_ble_eq_true rfl) rfl ?_
        simp only [List.set_cons_zero, List.set_cons_succ]
        refine wa_iload (pc := 5) (y := mX6_wouldHoldProtected) dX6_wouldHoldProtected_5 rfl ?_
        first | refine wa_aload_n (pc := 7) (y := mX6_wouldHoldProtected) dX6_wouldHoldProtected_7 rfl ?_ | refine wa_aload_nN (pc := 7) (y := mX6_wouldHoldProtected) dX6_wouldHoldProtected_7 rfl ?_ | refine wa_aload_nq (pc := 7) (y := mX6_wouldHoldProtected) dX6_wouldHoldProtected_7 rfl ?_
        refine wa_getf (pc := 8) (y := mX6_wouldHoldProtected) (k := 5) 0 dX6_wouldHoldProtected_8 mH_o rfl q2643 (Or.inl rfl) (Nat.le_of_ble_eq_true rfl) (by rfl) ?_
        refine wa_iconst (pc := 11) (y := mX6_wouldHoldProtected) (Int32.ofNat 0) dX6_wouldHoldProtected_11 rfl ?_
        refine wa_ialoadU (pc := 12) (y := mX6_wouldHoldProtected) dX6_wouldHoldProtected_12 mH_1 (by omega) ?_
        refine wa_icmp_ge (pc := 13) 63 dX6_wouldHoldProtected_13 rfl (fun hb13 => absurd ((iN_le (by omega) (by omega)).mp hb13) (by omega)) (fun hb13 => ?_)
        first | refine wa_aload_n (pc := 16) (y := mX6_wouldHoldProtected) dX6_wouldHoldProtected_16 rfl ?_ | refine wa_aload_nN (pc := 16) (y := mX6_wouldHoldProtected) dX6_wouldHoldProtected_16 rfl ?_ | refine wa_aload_nq (pc := 16) (y := mX6_wouldHoldProtected) dX6_wouldHoldProtected_16 rfl ?_
        refine wa_getf (pc := 17) (y := mX6_wouldHoldProtected) (k := 5) 0 dX6_wouldHoldProtected_17 mH_o rfl q2643 (Or.inl rfl) (Nat.le_of_ble_eq_true rfl) (by rfl) ?_
        refine wa_iload (pc := 20) (y := mX6_wouldHoldProtected) dX6_wouldHoldProtected_20 rfl ?_
        refine wa_callS (pc := 22) (s_X6_at (d := d - 1)) dX6_wouldHoldProtected_22 okX6_at q2727 q2728 rfl rfl (Nat.le_of_ble_eq_true rfl) (Nat.le_of_ble_eq_true rfl) (by omega) ?_
        rintro _ _ - - ⟨rfl, rfl⟩
        refine aft_v (pc2 := 25) ?_ rfl
        refine wa_iconst (pc := 25) (y := mX6_wouldHoldProtected) (Int32.ofNat 3) dX6_wouldHoldProtected_25 rfl ?_
        first | with_reducible refine wa_iaddN (pc := 26) (y := mX6_wouldHoldProtected) dX6_wouldHoldProtected_26 ?_ | refine wa_iadd (pc := 26) (y := mX6_wouldHoldProtected) dX6_wouldHoldProtected_26 ?_
        refine wa_ialoadN (pc := 27) (y := mX6_wouldHoldProtected) dX6_wouldHoldProtected_27 mH_1 (by omega) ?_
        refine wa_iconst (pc := 28) (y := mX6_wouldHoldProtected) (Int32.ofNat 1) dX6_wouldHoldProtected_28 rfl ?_
        refine wa_icmp_ne (pc := 29) 63 dX6_wouldHoldProtected_29 rfl (fun hb29 => absurd e2 hb29) (fun hb29 => ?_)
        first | refine wa_aload_n (pc := 32) (y := mX6_wouldHoldProtected) dX6_wouldHoldProtected_32 rfl ?_ | refine wa_aload_nN (pc := 32) (y := mX6_wouldHoldProtected) dX6_wouldHoldProtected_32 rfl ?_ | refine wa_aload_nq (pc := 32) (y := mX6_wouldHoldProtected) dX6_wouldHoldProtected_32 rfl ?_
        refine wa_iload (pc := 33) (y := mX6_wouldHoldProtected) dX6_wouldHoldProtected_33 rfl ?_
        refine wa_callV (pc := 35) (s_X6_isBlock (d := d - 1) (by omega) (by omega)) dX6_wouldHoldProtected_35 okX6_isBlock q2762 q2764 qs48 mH_o rfl rfl rfl (Nat.le_of_ble_eq_true rfl) (Nat.le_of_ble_eq_true rfl) (by omega) ?_
        rintro _ _ - - ⟨rfl, rfl⟩
        refine aft_v (pc2 := 38) ?_ rfl
        rw [e3]
        refine wa_if_ne (pc := 38) 63 dX6_wouldHoldProtected_38 rfl (fun hb38 => ?_) (fun hb38 => absurd hb38 (by decide))
        refine wa_iconst (pc := 63) (y := mX6_wouldHoldProtected) (Int32.ofNat 0) dX6_wouldHoldProtected_63 rfl ?_
        simpa [bI, e1, e2, e3] using tail false
      | false =>
        cases e4 : gv f (f (18 + 12 * (p + 1))) (Int32.ofNat c) with
        | none =>
          refine wa_iload_n (pc := 0) (y := mX6_wouldHoldProtected) dX6_wouldHoldProtected_0 rfl ?_
          refine wa_iconst (pc := 1) (y := mX6_wouldHoldProtected) (Int32.ofNat 1) dX6_wouldHoldProtected_1 rfl ?_
          first | with_reducible refine wa_iaddN (pc := 2) (y := mX6_wouldHoldProtected) dX6_wouldHoldProtected_2 ?_ | refine wa_iadd (pc := 2) (y := mX6_wouldHoldProtected) dX6_wouldHoldProtected_2 ?_
          refine wa_istore (pc := 3) (y := mX6_wouldHoldProtected) dX6_wouldHoldProtected_3 (Nat.le_of_ble_eq_true rfl) rfl ?_
          simp only [List.set_cons_zero, List.set_cons_succ]
          refine wa_iload (pc := 5) (y := mX6_wouldHoldProtected) dX6_wouldHoldProtected_5 rfl ?_
          first | refine wa_aload_n (pc := 7) (y := mX6_wouldHoldProtected) dX6_wouldHoldProtected_7 rfl ?_ | refine wa_aload_nN (pc := 7) (y := mX6_wouldHoldProtected) dX6_wouldHoldProtected_7 rfl ?_ | refine wa_aload_nq (pc := 7) (y := mX6_wouldHoldProtected) dX6_wouldHoldProtected_7 rfl ?_
          refine wa_getf (pc := 8) (y := mX6_wouldHoldProtected) (k := 5) 0 dX6_wouldHoldProtected_8 mH_o rfl q2643 (Or.inl rfl) (Nat.le_of_ble_eq_true rfl) (by rfl) ?_
          refine wa_iconst (pc := 11) (y := mX6_wouldHoldProtected) (Int32.ofNat 0) dX6_wouldHoldProtected_11 rfl ?_
          refine wa_ialoadU (pc := 12) (y := mX6_wouldHoldProtected) dX6_wouldHoldProtected_12 mH_1 (by omega) ?_
          refine wa_icmp_ge (pc := 13) 63 dX6_wouldHoldProtected_13 rfl (fun hb13 => absurd ((iN_le (by omega) (by omega)).mp hb13) (by omega)) (fun hb13 => ?_)
          first | refine wa_aload_n (pc := 16) (y := mX6_wouldHoldProtected) dX6_wouldHoldProtected_16 rfl ?_ | refine wa_aload_nN (pc := 16) (y := mX6_wouldHoldProtected) dX6_wouldHoldProtected_16 rfl ?_ | refine wa_aload_nq (pc := 16) (y := mX6_wouldHoldProtected) dX6_wouldHoldProtected_16 rfl ?_
          refine wa_getf (pc := 17) (y := mX6_wouldHoldProtected) (k := 5) 0 dX6_wouldHoldProtected_17 mH_o rfl q2643 (Or.inl rfl) (Nat.le_of_ble_eq_true rfl) (by rfl) ?_
          refine wa_iload (pc := 20) (y := mX6_wouldHoldProtected) dX6_wouldHoldProtected_20 rfl ?_
          refine wa_callS (pc := 22) (s_X6_at (d := d - 1)) dX6_wouldHoldProtected_22 okX6_at q2727 q2728 rfl rfl (Nat.le_of_ble_eq_true rfl) (Nat.le_of_ble_eq_true rfl) (by omega) ?_
          rintro _ _ - - ⟨rfl, rfl⟩
          refine aft_v (pc2 := 25) ?_ rfl
          refine wa_iconst (pc := 25) (y := mX6_wouldHoldProtected) (Int32.ofNat 3) dX6_wouldHoldProtected_25 rfl ?_
          first | with_reducible refine wa_iaddN (pc := 26) (y := mX6_wouldHoldProtected) dX6_wouldHoldProtected_26 ?_ | refine wa_iadd (pc := 26) (y := mX6_wouldHoldProtected) dX6_wouldHoldProtected_26 ?_
          refine wa_ialoadN (pc := 27) (y := mX6_wouldHoldProtected) dX6_wouldHoldProtected_27 mH_1 (by omega) ?_
          refine wa_iconst (pc := 28) (y := mX6_wouldHoldProtected) (Int32.ofNat 1) dX6_wouldHoldProtected_28 rfl ?_
          refine wa_icmp_ne (pc := 29) 63 dX6_wouldHoldProtected_29 rfl (fun hb29 => absurd e2 hb29) (fun hb29 => ?_)
          first | refine wa_aload_n (pc := 32) (y := mX6_wouldHoldProtected) dX6_wouldHoldProtected_32 rfl ?_ | refine wa_aload_nN (pc := 32) (y := mX6_wouldHoldProtected) dX6_wouldHoldProtected_32 rfl ?_ | refine wa_aload_nq (pc := 32) (y := mX6_wouldHoldProtected) dX6_wouldHoldProtected_32 rfl ?_
          refine wa_iload (pc := 33) (y := mX6_wouldHoldProtected) dX6_wouldHoldProtected_33 rfl ?_
          refine wa_callV (pc := 35) (s_X6_isBlock (d := d - 1) (by omega) (by omega)) dX6_wouldHoldProtected_35 okX6_isBlock q2762 q2764 qs48 mH_o rfl rfl rfl (Nat.le_of_ble_eq_true rfl) (Nat.le_of_ble_eq_true rfl) (by omega) ?_
          rintro _ _ - - ⟨rfl, rfl⟩
          refine aft_v (pc2 := 38) ?_ rfl
          rw [e3]
          refine wa_if_ne (pc := 38) 63 dX6_wouldHoldProtected_38 rfl (fun hb38 => absurd rfl hb38) (fun hb38 => ?_)
          first | refine wa_aload_n (pc := 41) (y := mX6_wouldHoldProtected) dX6_wouldHoldProtected_41 rfl ?_ | refine wa_aload_nN (pc := 41) (y := mX6_wouldHoldProtected) dX6_wouldHoldProtected_41 rfl ?_ | refine wa_aload_nq (pc := 41) (y := mX6_wouldHoldProtected) dX6_wouldHoldProtected_41 rfl ?_
          first | refine wa_aload_n (pc := 42) (y := mX6_wouldHoldProtected) dX6_wouldHoldProtected_42 rfl ?_ | refine wa_aload_nN (pc := 42) (y := mX6_wouldHoldProtected) dX6_wouldHoldProtected_42 rfl ?_ | refine wa_aload_nq (pc := 42) (y := mX6_wouldHoldProtected) dX6_wouldHoldProtected_42 rfl ?_
          refine wa_getf (pc := 43) (y := mX6_wouldHoldProtected) (k := 5) 0 dX6_wouldHoldProtected_43 mH_o rfl q2643 (Or.inl rfl) (Nat.le_of_ble_eq_true rfl) (by rfl) ?_
          refine wa_iload (pc := 46) (y := mX6_wouldHoldProtected) dX6_wouldHoldProtected_46 rfl ?_
          refine wa_callS (pc := 48) (s_X6_at (d := d - 1)) dX6_wouldHoldProtected_48 okX6_at q2727 q2728 rfl rfl (Nat.le_of_ble_eq_true rfl) (Nat.le_of_ble_eq_true rfl) (by omega) ?_
          rintro _ _ - - ⟨rfl, rfl⟩
          refine aft_v (pc2 := 51) ?_ rfl
          refine wa_ialoadN (pc := 51) (y := mX6_wouldHoldProtected) dX6_wouldHoldProtected_51 mH_1 (by omega) ?_
          refine wa_iload_n (pc := 52) (y := mX6_wouldHoldProtected) dX6_wouldHoldProtected_52 rfl ?_
          refine wa_callV (pc := 53) (s_X6_given (d := d - 1) hI) dX6_wouldHoldProtected_53 okX6_given q2758 q2760 qs47 mH_o rfl rfl rfl (Nat.le_of_ble_eq_true rfl) (Nat.le_of_ble_eq_true rfl) (by omega) ?_
          rintro _ _ - - ⟨rfl, rfl⟩
          refine aft_v (pc2 := 56) ?_ rfl
          rw [e4, oI_none]
          refine wa_if_ge (pc := 56) 63 dX6_wouldHoldProtected_56 rfl (fun hb56 => absurd hb56 (by decide)) (fun hb56 => ?_)
          refine wa_iconst (pc := 59) (y := mX6_wouldHoldProtected) (Int32.ofNat 1) dX6_wouldHoldProtected_59 rfl ?_
          refine wa_goto (pc := 60) (y := mX6_wouldHoldProtected) 64 dX6_wouldHoldProtected_60 rfl ?_
          simpa [bI, e1, e2, e3, e4] using tail true
        | some i =>
          have hs := (gv_some e4).1
          have hi := hI.2.1
          refine wa_iload_n (pc := 0) (y := mX6_wouldHoldProtected) dX6_wouldHoldProtected_0 rfl ?_
          refine wa_iconst (pc := 1) (y := mX6_wouldHoldProtected) (Int32.ofNat 1) dX6_wouldHoldProtected_1 rfl ?_
          first | with_reducible refine wa_iaddN (pc := 2) (y := mX6_wouldHoldProtected) dX6_wouldHoldProtected_2 ?_ | refine wa_iadd (pc := 2) (y := mX6_wouldHoldProtected) dX6_wouldHoldProtected_2 ?_
          refine wa_istore (pc := 3) (y := mX6_wouldHoldProtected) dX6_wouldHoldProtected_3 (Nat.le_of_ble_eq_true rfl) rfl ?_
          simp only [List.set_cons_zero, List.set_cons_succ]
          refine wa_iload (pc := 5) (y := mX6_wouldHoldProtected) dX6_wouldHoldProtected_5 rfl ?_
          first | refine wa_aload_n (pc := 7) (y := mX6_wouldHoldProtected) dX6_wouldHoldProtected_7 rfl ?_ | refine wa_aload_nN (pc := 7) (y := mX6_wouldHoldProtected) dX6_wouldHoldProtected_7 rfl ?_ | refine wa_aload_nq (pc := 7) (y := mX6_wouldHoldProtected) dX6_wouldHoldProtected_7 rfl ?_
          refine wa_getf (pc := 8) (y := mX6_wouldHoldProtected) (k := 5) 0 dX6_wouldHoldProtected_8 mH_o rfl q2643 (Or.inl rfl) (Nat.le_of_ble_eq_true rfl) (by rfl) ?_
          refine wa_iconst (pc := 11) (y := mX6_wouldHoldProtected) (Int32.ofNat 0) dX6_wouldHoldProtected_11 rfl ?_
          refine wa_ialoadU (pc := 12) (y := mX6_wouldHoldProtected) dX6_wouldHoldProtected_12 mH_1 (by omega) ?_
          refine wa_icmp_ge (pc := 13) 63 dX6_wouldHoldProtected_13 rfl (fun hb13 => absurd ((iN_le (by omega) (by omega)).mp hb13) (by omega)) (fun hb13 => ?_)
          first | refine wa_aload_n (pc := 16) (y := mX6_wouldHoldProtected) dX6_wouldHoldProtected_16 rfl ?_ | refine wa_aload_nN (pc := 16) (y := mX6_wouldHoldProtected) dX6_wouldHoldProtected_16 rfl ?_ | refine wa_aload_nq (pc := 16) (y := mX6_wouldHoldProtected) dX6_wouldHoldProtected_16 rfl ?_
          refine wa_getf (pc := 17) (y := mX6_wouldHoldProtected) (k := 5) 0 dX6_wouldHoldProtected_17 mH_o rfl q2643 (Or.inl rfl) (Nat.le_of_ble_eq_true rfl) (by rfl) ?_
          refine wa_iload (pc := 20) (y := mX6_wouldHoldProtected) dX6_wouldHoldProtected_20 rfl ?_
          refine wa_callS (pc := 22) (s_X6_at (d := d - 1)) dX6_wouldHoldProtected_22 okX6_at q2727 q2728 rfl rfl (Nat.le_of_ble_eq_true rfl) (Nat.le_of_ble_eq_true rfl) (by omega) ?_
          rintro _ _ - - ⟨rfl, rfl⟩
          refine aft_v (pc2 := 25) ?_ rfl
          refine wa_iconst (pc := 25) (y := mX6_wouldHoldProtected) (Int32.ofNat 3) dX6_wouldHoldProtected_25 rfl ?_
          first | with_reducible refine wa_iaddN (pc := 26) (y := mX6_wouldHoldProtected) dX6_wouldHoldProtected_26 ?_ | refine wa_iadd (pc := 26) (y := mX6_wouldHoldProtected) dX6_wouldHoldProtected_26 ?_
          refine wa_ialoadN (pc := 27) (y := mX6_wouldHoldProtected) dX6_wouldHoldProtected_27 mH_1 (by omega) ?_
          refine wa_iconst (pc := 28) (y := mX6_wouldHoldProtected) (Int32.ofNat 1) dX6_wouldHoldProtected_28 rfl ?_
          refine wa_icmp_ne (pc := 29) 63 dX6_wouldHoldProtected_29 rfl (fun hb29 => absurd e2 hb29) (fun hb29 => ?_)
          first | refine wa_aload_n (pc := 32) (y := mX6_wouldHoldProtected) dX6_wouldHoldProtected_32 rfl ?_ | refine wa_aload_nN (pc := 32) (y := mX6_wouldHoldProtected) dX6_wouldHoldProtected_32 rfl ?_ | refine wa_aload_nq (pc := 32) (y := mX6_wouldHoldProtected) dX6_wouldHoldProtected_32 rfl ?_
          refine wa_iload (pc := 33) (y := mX6_wouldHoldProtected) dX6_wouldHoldProtected_33 rfl ?_
          refine wa_callV (pc := 35) (s_X6_isBlock (d := d - 1) (by omega) (by omega)) dX6_wouldHoldProtected_35 okX6_isBlock q2762 q2764 qs48 mH_o rfl rfl rfl (Nat.le_of_ble_eq_true rfl) (Nat.le_of_ble_eq_true rfl) (by omega) ?_
          rintro _ _ - - ⟨rfl, rfl⟩
          refine aft_v (pc2 := 38) ?_ rfl
          rw [e3]
          refine wa_if_ne (pc := 38) 63 dX6_wouldHoldProtected_38 rfl (fun hb38 => absurd rfl hb38) (fun hb38 => ?_)
          first | refine wa_aload_n (pc := 41) (y := mX6_wouldHoldProtected) dX6_wouldHoldProtected_41 rfl ?_ | refine wa_aload_nN (pc := 41) (y := mX6_wouldHoldProtected) dX6_wouldHoldProtected_41 rfl ?_ | refine wa_aload_nq (pc := 41) (y := mX6_wouldHoldProtected) dX6_wouldHoldProtected_41 rfl ?_
          first | refine wa_aload_n (pc := 42) (y := mX6_wouldHoldProtected) dX6_wouldHoldProtected_42 rfl ?_ | refine wa_aload_nN (pc := 42) (y := mX6_wouldHoldProtected) dX6_wouldHoldProtected_42 rfl ?_ | refine wa_aload_nq (pc := 42) (y := mX6_wouldHoldProtected) dX6_wouldHoldProtected_42 rfl ?_
          refine wa_getf (pc := 43) (y := mX6_wouldHoldProtected) (k := 5) 0 dX6_wouldHoldProtected_43 mH_o rfl q2643 (Or.inl rfl) (Nat.le_of_ble_eq_true rfl) (by rfl) ?_
          refine wa_iload (pc := 46) (y := mX6_wouldHoldProtected) dX6_wouldHoldProtected_46 rfl ?_
          refine wa_callS (pc := 48) (s_X6_at (d := d - 1)) dX6_wouldHoldProtected_48 okX6_at q2727 q2728 rfl rfl (Nat.le_of_ble_eq_true rfl) (Nat.le_of_ble_eq_true rfl) (by omega) ?_
          rintro _ _ - - ⟨rfl, rfl⟩
          refine aft_v (pc2 := 51) ?_ rfl
          refine wa_ialoadN (pc := 51) (y := mX6_wouldHoldProtected) dX6_wouldHoldProtected_51 mH_1 (by omega) ?_
          refine wa_iload_n (pc := 52) (y := mX6_wouldHoldProtected) dX6_wouldHoldProtected_52 rfl ?_
          refine wa_callV (pc := 53) (s_X6_given (d := d - 1) hI) dX6_wouldHoldProtected_53 okX6_given q2758 q2760 qs47 mH_o rfl rfl rfl (Nat.le_of_ble_eq_true rfl) (Nat.le_of_ble_eq_true rfl) (by omega) ?_
          rintro _ _ - - ⟨rfl, rfl⟩
          refine aft_v (pc2 := 56) ?_ rfl
          rw [e4, oI_some]
          refine wa_if_ge (pc := 56) 63 dX6_wouldHoldProtected_56 rfl (fun hb56 => ?_) (fun hb56 => absurd ((iN_le (a := 0) (by omega) (by omega)).mpr (by omega)) hb56)
          refine wa_iconst (pc := 63) (y := mX6_wouldHoldProtected) (Int32.ofNat 0) dX6_wouldHoldProtected_63 rfl ?_
          simpa [bI, e1, e2, e3, e4] using tail false
    · refine wa_iload_n (pc := 0) (y := mX6_wouldHoldProtected) dX6_wouldHoldProtected_0 rfl ?_
      refine wa_iconst (pc := 1) (y := mX6_wouldHoldProtected) (Int32.ofNat 1) dX6_wouldHoldProtected_1 rfl ?_
      first | with_reducible refine wa_iaddN (pc := 2) (y := mX6_wouldHoldProtected) dX6_wouldHoldProtected_2 ?_ | refine wa_iadd (pc := 2) (y := mX6_wouldHoldProtected) dX6_wouldHoldProtected_2 ?_
      refine wa_istore (pc := 3) (y := mX6_wouldHoldProtected) dX6_wouldHoldProtected_3 (Nat.le_of_ble_eq_true rfl) rfl ?_
      simp only [List.set_cons_zero, List.set_cons_succ]
      refine wa_iload (pc := 5) (y := mX6_wouldHoldProtected) dX6_wouldHoldProtected_5 rfl ?_
      first | refine wa_aload_n (pc := 7) (y := mX6_wouldHoldProtected) dX6_wouldHoldProtected_7 rfl ?_ | refine wa_aload_nN (pc := 7) (y := mX6_wouldHoldProtected) dX6_wouldHoldProtected_7 rfl ?_ | refine wa_aload_nq (pc := 7) (y := mX6_wouldHoldProtected) dX6_wouldHoldProtected_7 rfl ?_
      refine wa_getf (pc := 8) (y := mX6_wouldHoldProtected) (k := 5) 0 dX6_wouldHoldProtected_8 mH_o rfl q2643 (Or.inl rfl) (Nat.le_of_ble_eq_true rfl) (by rfl) ?_
      refine wa_iconst (pc := 11) (y := mX6_wouldHoldProtected) (Int32.ofNat 0) dX6_wouldHoldProtected_11 rfl ?_
      refine wa_ialoadU (pc := 12) (y := mX6_wouldHoldProtected) dX6_wouldHoldProtected_12 mH_1 (by omega) ?_
      refine wa_icmp_ge (pc := 13) 63 dX6_wouldHoldProtected_13 rfl (fun hb13 => absurd ((iN_le (by omega) (by omega)).mp hb13) (by omega)) (fun hb13 => ?_)
      first | refine wa_aload_n (pc := 16) (y := mX6_wouldHoldProtected) dX6_wouldHoldProtected_16 rfl ?_ | refine wa_aload_nN (pc := 16) (y := mX6_wouldHoldProtected) dX6_wouldHoldProtected_16 rfl ?_ | refine wa_aload_nq (pc := 16) (y := mX6_wouldHoldProtected) dX6_wouldHoldProtected_16 rfl ?_
      refine wa_getf (pc := 17) (y := mX6_wouldHoldProtected) (k := 5) 0 dX6_wouldHoldProtected_17 mH_o rfl q2643 (Or.inl rfl) (Nat.le_of_ble_eq_true rfl) (by rfl) ?_
      refine wa_iload (pc := 20) (y := mX6_wouldHoldProtected) dX6_wouldHoldProtected_20 rfl ?_
      refine wa_callS (pc := 22) (s_X6_at (d := d - 1)) dX6_wouldHoldProtected_22 okX6_at q2727 q2728 rfl rfl (Nat.le_of_ble_eq_true rfl) (Nat.le_of_ble_eq_true rfl) (by omega) ?_
      rintro _ _ - - ⟨rfl, rfl⟩
      refine aft_v (pc2 := 25) ?_ rfl
      refine wa_iconst (pc := 25) (y := mX6_wouldHoldProtected) (Int32.ofNat 3) dX6_wouldHoldProtected_25 rfl ?_
      first | with_reducible refine wa_iaddN (pc := 26) (y := mX6_wouldHoldProtected) dX6_wouldHoldProtected_26 ?_ | refine wa_iadd (pc := 26) (y := mX6_wouldHoldProtected) dX6_wouldHoldProtected_26 ?_
      refine wa_ialoadN (pc := 27) (y := mX6_wouldHoldProtected) dX6_wouldHoldProtected_27 mH_1 (by omega) ?_
      refine wa_iconst (pc := 28) (y := mX6_wouldHoldProtected) (Int32.ofNat 1) dX6_wouldHoldProtected_28 rfl ?_
      refine wa_icmp_ne (pc := 29) 63 dX6_wouldHoldProtected_29 rfl (fun hb29 => ?_) (fun hb29 => absurd hb29 e2)
      refine wa_iconst (pc := 63) (y := mX6_wouldHoldProtected) (Int32.ofNat 0) dX6_wouldHoldProtected_63 rfl ?_
      simpa [bI, e1, e2] using tail false
  · refine wa_iload_n (pc := 0) (y := mX6_wouldHoldProtected) dX6_wouldHoldProtected_0 rfl ?_
    refine wa_iconst (pc := 1) (y := mX6_wouldHoldProtected) (Int32.ofNat 1) dX6_wouldHoldProtected_1 rfl ?_
    first | with_reducible refine wa_iaddN (pc := 2) (y := mX6_wouldHoldProtected) dX6_wouldHoldProtected_2 ?_ | refine wa_iadd (pc := 2) (y := mX6_wouldHoldProtected) dX6_wouldHoldProtected_2 ?_
    refine wa_istore (pc := 3) (y := mX6_wouldHoldProtected) dX6_wouldHoldProtected_3 (Nat.le_of_ble_eq_true rfl) rfl ?_
    simp only [List.set_cons_zero, List.set_cons_succ]
    refine wa_iload (pc := 5) (y := mX6_wouldHoldProtected) dX6_wouldHoldProtected_5 rfl ?_
    first | refine wa_aload_n (pc := 7) (y := mX6_wouldHoldProtected) dX6_wouldHoldProtected_7 rfl ?_ | refine wa_aload_nN (pc := 7) (y := mX6_wouldHoldProtected) dX6_wouldHoldProtected_7 rfl ?_ | refine wa_aload_nq (pc := 7) (y := mX6_wouldHoldProtected) dX6_wouldHoldProtected_7 rfl ?_
    refine wa_getf (pc := 8) (y := mX6_wouldHoldProtected) (k := 5) 0 dX6_wouldHoldProtected_8 mH_o rfl q2643 (Or.inl rfl) (Nat.le_of_ble_eq_true rfl) (by rfl) ?_
    refine wa_iconst (pc := 11) (y := mX6_wouldHoldProtected) (Int32.ofNat 0) dX6_wouldHoldProtected_11 rfl ?_
    refine wa_ialoadU (pc := 12) (y := mX6_wouldHoldProtected) dX6_wouldHoldProtected_12 mH_1 (by omega) ?_
    refine wa_icmp_ge (pc := 13) 63 dX6_wouldHoldProtected_13 rfl (fun hb13 => ?_) (fun hb13 => absurd ((iN_le (by omega) (by omega)).mpr (by omega)) hb13)
    refine wa_iconst (pc := 63) (y := mX6_wouldHoldProtected) (Int32.ofNat 0) dX6_wouldHoldProtected_63 rfl ?_
    simpa [bI, e1] using tail false
end MEDIT
