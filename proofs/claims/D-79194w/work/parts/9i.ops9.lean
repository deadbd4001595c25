/-! ===== CueStack: instruction (written by tools/gen9i.py) ===== -/
section OPS9
variable {G : GG} {d n N : Nat} {h h2 h3 : AH} {F F2 F3 : Nat → Nat → Value} {own own2 own3 : Nat → Option Nat} {x s s1 s2 k i j m p q c a e kd : Nat} {C C2 : CA} {f f2 g : Nat → Int32} {σ σ2 : MS} {P O : Nat → Prop} {r : RR} {h' : AH} {A : SA} {v w z : Int32} {b : Bool} {ks : List Nat} {oo : OO}
theorem key_eq {a b : Nat} (ha : a < 1200) (hb : b < 1200) (h1 : Int32.ofNat (a / 12) = Int32.ofNat (b / 12)) (h2 : Int32.ofNat (a % 12) = Int32.ofNat (b % 12)) : a = b := by
  have e1 := congrArg u h1
  have e2 := congrArg u h2
  rw [u_of (by omega), u_of (by omega)] at e1 e2
  omega
theorem CompR.keyX (R : CompR G h F own x C f σ) (K : KeyAt h F q k) (hi : i < u (f 1)) (e1 : f (162 + 4 * i) = Int32.ofNat (k / 12)) (e2 : f (162 + 4 * i + 1) = Int32.ofNat (k % 12)) (A : SA) (S : ShowN G h F (fun b => own b = some C.s) C.s A f) : ∃ p, p ∈ A.ns ∧ kF F p = k ∧ TldR h F (vF F p) (f (162 + 4 * i + 2)) (f (162 + 4 * i + 3)) := by
  obtain ⟨h60, S⟩ := S
  obtain ⟨p2, hp2⟩ : ∃ p2, A.ns[i]? = some p2 := ⟨_, List.getElem?_eq_getElem (by have := S.ni; omega)⟩
  obtain ⟨d1, d2, d3⟩ := S.ins i p2 hp2
  have hm2 := List.mem_of_getElem? hp2
  exact ⟨p2, hm2, key_eq (S.key hm2) K.2.2.2 (d1.symm.trans e1) (d2.symm.trans e2), d3⟩
theorem inb_sz {n : Nat} (hn : n < 1000) : inb v (Int32.ofNat 0) (Int32.ofNat n - Int32.ofNat 1) = decide (u v < n) := inb_n hn
/-- behind the map's answer: told -/
theorem ins_85 (R2 : CompR G h2 F2 own2 x C2 f σ) (ch2 : Ch N h F own h2 F2 own2) (hd : 2 ≤ d) (hN : N ≤ 45000) (T : TldR h2 F2 a (f (162 + 4 * i + 2)) (f (162 + 4 * i + 3))) (hO : oo = oR f σ (f (162 + 4 * i + 2))) : WA G d mX1_instruction 85 [.ref x, .int v, .int w, .ref q] [.ref a] (sF h2 F2) (OpQ G h F own x ks oo) := by
  rcases T with ⟨-, -, ⟨e1, iv⟩ | ⟨e1, iv, ev⟩⟩
  · refine wa_castY (pc := 85) (y := mX1_instruction) (k := 8) dX1_instruction_85 (sF_at (by assumption)) rfl q2206 q3109 ?_
    refine wa_callW (k := 8) (pc := 88) (owner := "CueStack$Instruction") (s_X8_told (d := d - 1)) dX1_instruction_88 okX8_told rfl q2207 q2209 (hDc_code q2208 q2214) (by decide) q2213 q2208 (sF_at (by assumption)) rfl rfl rfl rfl (Nat.le_of_ble_eq_true rfl) (Nat.le_of_ble_eq_true rfl) (by omega) ?_
    rintro _ _ - - ⟨rfl, rfl⟩
    refine aft_v (pc2 := 91) ?_ rfl
    refine wa_ireturn (pc := 91) (y := mX1_instruction) .int dX1_instruction_91 rfl rfl (OpQ.val ch2 (by omega) R2 (by rw [hO]; rfl) (by rw [hO]; exact e1) (by rw [hO]; rfl) (by rw [hO]; exact SgE.v7))
  · refine wa_castY (pc := 85) (y := mX1_instruction) (k := 7) dX1_instruction_85 (sF_at (by assumption)) rfl q2206 q3108 ?_
    refine wa_callW (k := 7) (pc := 88) (owner := "CueStack$Instruction") (s_X9_told (d := d - 1) iv ev) dX1_instruction_88 okX9_told rfl q2207 q2209 (hDc_code q2208 q2214) (by decide) q2210 q2211 (sF_at (by assumption)) rfl rfl rfl rfl (Nat.le_of_ble_eq_true rfl) (Nat.le_of_ble_eq_true rfl) (by omega) ?_
    rintro _ _ - - ⟨rfl, rfl⟩
    refine aft_v (pc2 := 91) ?_ rfl
    refine wa_ireturn (pc := 91) (y := mX1_instruction) .int dX1_instruction_91 rfl rfl (OpQ.val ch2 (by omega) R2 (by rw [hO]; rfl) (by rw [hO]; rfl) (by rw [hO]; rfl) (by rw [hO]; exact SgE.v7))
theorem ins_103 (R2 : CompR G h2 F2 own2 x C2 f σ) (ch2 : Ch N h F own h2 F2 own2) (hN : N ≤ 45000) (T : TldR h2 F2 a (f (162 + 4 * i + 2)) (f (162 + 4 * i + 3))) (hO : oo = oR f σ (f (162 + 4 * i + 3))) : WA G d mX1_instruction 103 [.ref x, .int v, .int w, .ref q] [.ref a] (sF h2 F2) (OpQ G h F own x ks oo) := by
  rcases T with ⟨-, e2, ⟨e1, iv⟩ | ⟨e1, iv, ev⟩⟩
  · refine wa_castY (pc := 103) (y := mX1_instruction) (k := 8) dX1_instruction_103 (sF_at (by assumption)) rfl q2206 q3109 ?_
    refine wf_getN (k := 8) (l := 1) 0 dX1_instruction_106 (by assumption) rfl q1956 (Or.inl rfl) (Nat.le_of_ble_eq_true rfl) (Nat.le_of_ble_eq_true rfl) (by (repeat (first | exact updF_self _ _ _ _ | (apply updF_i; · decide) | (apply updF_a; · first | assumption | (apply Ne.symm; assumption) | omega) | (apply newF_a; · first | assumption | (apply Ne.symm; assumption) | omega) | exact newL_self (by rfl) | exact newF_self (by rfl) | (apply cpyF_a; · first | assumption | (apply Ne.symm; assumption) | omega))) <;> first | assumption | rfl) ?_
    refine wa_ireturn (pc := 109) (y := mX1_instruction) .int dX1_instruction_109 rfl rfl (OpQ.val ch2 (by omega) R2 (by rw [hO]; rfl) (by rw [hO]; rfl) (by rw [hO]; rfl) (by rw [hO]; exact SgE.v7))
  · refine wa_castY (pc := 103) (y := mX1_instruction) (k := 7) dX1_instruction_103 (sF_at (by assumption)) rfl q2206 q3108 ?_
    refine wf_getN (k := 7) (l := 2) 0 dX1_instruction_106 (by assumption) rfl q1956 (Or.inl rfl) (Nat.le_of_ble_eq_true rfl) (Nat.le_of_ble_eq_true rfl) (by (repeat (first | exact updF_self _ _ _ _ | (apply updF_i; · decide) | (apply updF_a; · first | assumption | (apply Ne.symm; assumption) | omega) | (apply newF_a; · first | assumption | (apply Ne.symm; assumption) | omega) | exact newL_self (by rfl) | exact newF_self (by rfl) | (apply cpyF_a; · first | assumption | (apply Ne.symm; assumption) | omega))) <;> first | assumption | rfl) ?_
    refine wa_ireturn (pc := 109) (y := mX1_instruction) .int dX1_instruction_109 rfl rfl (OpQ.val ch2 (by omega) R2 (by rw [hO]; rfl) (by rw [hO]; rfl) (by rw [hO]; rfl) (by rw [hO]; exact SgE.v7))
theorem s_X1_instruction (hd : 9 ≤ d) (R : CompR G h F own x C f σ) : MA G d mX1_instruction [.ref x, .int v, .int w] (sF h F) (OpQ G h F own x [26, 23] (O_instruction f σ v w)) := by
  have i1 := R.is
  have e0 := R.f0
  have e2 := R.f2
  have k1 := R.sh.is
  have p1 := R.pa.1
  obtain ⟨gf, A, h60, S⟩ := id R.sh
  have h12 := gf.1.1
  have x0 := S.f0
  have x2 := S.f2
  have x3 := S.f3
  have x7 := S.f7
  have xh := S.hm
  have xc := S.cl.1
  have xl := S.fl.1
  have ch := Ch.refl (F := F) R.ob
  have xm := S.im.1
  have x1 := S.f1
  have hni := S.ni
  change WA G d mX1_instruction 0 [.ref x, .int v, .int w, .retAddr 0] [] _ _
  by_cases hv : u v < u (f 1)
  · by_cases hw : u w < 4
    · have hO0 : O_instruction f σ v w = oR f σ (f (162 + 4 * u v + u w)) := (if_neg (Decidable.not_not.mpr hv)).trans (if_neg (Decidable.not_not.mpr hw))
      obtain ⟨m, hmv0⟩ : ∃ m, u v = m := ⟨_, rfl⟩
      have ev : v = Int32.ofNat m := by rw [← hmv0]; exact (u_self v).symm
      have hmv : u (Int32.ofNat m) = m := by rw [← ev]; exact hmv0
      obtain ⟨k, hkw0⟩ : ∃ k, u w = k := ⟨_, rfl⟩
      have ew : w = Int32.ofNat k := by rw [← hkw0]; exact (u_self w).symm
      rw [hmv0] at hv hO0
      rw [hkw0] at hw hO0
      subst ev
      subst ew
      clear hkw0
      rcases (show k = 0 ∨ k = 1 ∨ k = 2 ∨ k = 3 by omega) with rfl | rfl | rfl | rfl
      · have hO : O_instruction f σ (Int32.ofNat m) (Int32.ofNat 0) = oR f σ (f (162 + 4 * m)) := hO0
        refine wa_iload_n (pc := 0) (y := mX1_instruction) dX1_instruction_0 rfl ?_
        refine wa_iconst (pc := 1) (y := mX1_instruction) (Int32.ofNat 0) dX1_instruction_1 rfl ?_
        refine wa_aloadV_n (pc := 2) (y := mX1_instruction) dX1_instruction_2 rfl (by first | exact rf_s _ | exact rf_n | exact rf_q _) ?_
        refine wf_get (k := 0) (l := 9) 0 dX1_instruction_3 (by assumption) rfl q1111 (Or.inl rfl) (Nat.le_of_ble_eq_true rfl) (Nat.le_of_ble_eq_true rfl) (by (repeat (first | exact updF_self _ _ _ _ | (apply updF_i; · decide) | (apply updF_a; · first | assumption | (apply Ne.symm; assumption) | omega) | (apply newF_a; · first | assumption | (apply Ne.symm; assumption) | omega) | exact newL_self (by rfl) | exact newF_self (by rfl) | (apply cpyF_a; · first | assumption | (apply Ne.symm; assumption) | omega))) <;> first | assumption | rfl) ?_
        refine wf_getN (k := 1) (l := 8) 1 dX1_instruction_6 (by assumption) rfl q358 (Or.inl rfl) (Nat.le_of_ble_eq_true rfl) (Nat.le_of_ble_eq_true rfl) (by (repeat (first | exact updF_self _ _ _ _ | (apply updF_i; · decide) | (apply updF_a; · first | assumption | (apply Ne.symm; assumption) | omega) | (apply newF_a; · first | assumption | (apply Ne.symm; assumption) | omega) | exact newL_self (by rfl) | exact newF_self (by rfl) | (apply cpyF_a; · first | assumption | (apply Ne.symm; assumption) | omega))) <;> first | assumption | rfl) ?_
        refine wa_callW (k := 12) (pc := 9) (owner := "java/util/HashMap") (s_J4_size (d := d - 1) S.im) dX1_instruction_9 okJ4_size rfl q2194 q1990 (hDc_code q1242 q1244) (by decide) q1992 q1242 (sF_at (by assumption)) rfl rfl rfl rfl (Nat.le_of_ble_eq_true rfl) (Nat.le_of_ble_eq_true rfl) (by omega) ?_
        rintro _ _ - - ⟨rfl, rfl⟩
        refine aft_v (pc2 := 12) ?_ rfl
        refine wa_iconst (pc := 12) (y := mX1_instruction) (Int32.ofNat 1) dX1_instruction_12 rfl ?_
        refine wa_isub (pc := 13) (y := mX1_instruction) dX1_instruction_13 ?_
        refine wa_callS (pc := 14) (s_X1_isIn (d := d - 1)) dX1_instruction_14 okX1_isIn q2020 q1692 rfl rfl (Nat.le_of_ble_eq_true rfl) (Nat.le_of_ble_eq_true rfl) (by omega) ?_
        rintro _ _ - - ⟨rfl, rfl⟩
        refine aft_v (pc2 := 17) ?_ rfl
        rw [show inb (Int32.ofNat m) (Int32.ofNat 0) (Int32.ofNat A.ns.length - Int32.ofNat 1) = true from (inb_sz (by omega)).trans (decide_eq_true (by rw [hmv, ← hni]; exact hv))]
        refine wa_callS (pc := 17) (s_X1_checkElement (d := d - 1) (b := true) (by omega)) dX1_instruction_17 okX1_checkElement q2021 q2022 rfl rfl (Nat.le_of_ble_eq_true rfl) (Nat.le_of_ble_eq_true rfl) (by omega) ?_
        rintro r h' - - (⟨-, rfl, rfl⟩ | ⟨hb, -⟩)
        rotate_left
        · cases hb
        refine aft_0 (pc2 := 20) ?_ rfl
        refine wa_iload_n (pc := 20) (y := mX1_instruction) dX1_instruction_20 rfl ?_
        refine wa_iconst (pc := 21) (y := mX1_instruction) (Int32.ofNat 0) dX1_instruction_21 rfl ?_
        refine wa_iconst (pc := 22) (y := mX1_instruction) (Int32.ofNat 3) dX1_instruction_22 rfl ?_
        refine wa_callS (pc := 23) (s_X1_isIn (d := d - 1)) dX1_instruction_23 okX1_isIn q2020 q1692 rfl rfl (Nat.le_of_ble_eq_true rfl) (Nat.le_of_ble_eq_true rfl) (by omega) ?_
        rintro _ _ - - ⟨rfl, rfl⟩
        refine aft_v (pc2 := 26) ?_ rfl
        rw [show inb (Int32.ofNat 0) (Int32.ofNat 0) (Int32.ofNat 3) = true from by decide]
        refine wa_callS (pc := 26) (s_X1_checkArgument (d := d - 1) (b := true) (by omega)) dX1_instruction_26 okX1_checkArgument q2038 q1699 rfl rfl (Nat.le_of_ble_eq_true rfl) (Nat.le_of_ble_eq_true rfl) (by omega) ?_
        rintro r h' - - (⟨-, rfl, rfl⟩ | ⟨hb, -⟩)
        rotate_left
        · cases hb
        refine aft_0 (pc2 := 29) ?_ rfl
        refine wa_aloadV_n (pc := 29) (y := mX1_instruction) dX1_instruction_29 rfl (by first | exact rf_s _ | exact rf_n | exact rf_q _) ?_
        refine wa_iload_n (pc := 30) (y := mX1_instruction) dX1_instruction_30 rfl ?_
        refine wa_callV (pc := 31) (s_X1_keyAt (d := d - 1) (i := m) (by omega) R hv) dX1_instruction_31 okX1_keyAt q2195 q2197 qs22 (sF_at (by assumption)) rfl rfl rfl (Nat.le_of_ble_eq_true rfl) (Nat.le_of_ble_eq_true rfl) (by omega) ?_
        rintro _ _ - - ⟨h2, F2, own2, q, k, rfl, rfl, ch2, R2, K, g1, g2⟩
        refine aft_v (pc2 := 34) ?_ rfl
        have K1 := K.1; have K2 := K.2.1; have K3 := K.2.2.1
        refine wa_astoreV_n (pc := 34) (y := mX1_instruction) dX1_instruction_34 (Nat.le_of_ble_eq_true rfl) (by first | rfl | (simp [okst, rf_cat] <;> assumption)) (by first | exact rf_s _ | exact rf_n | exact rf_q _) ?_
        change WA _ _ _ _ (List.set _ 3 _) _ _ _
        simp only [List.set_cons_zero, List.set_cons_succ]
        refine wa_iload_n (pc := 35) (y := mX1_instruction) dX1_instruction_35 rfl ?_
        refine wa_tableIn (pc := 36) (y := mX1_instruction) 64 dX1_instruction_36 (by decide) (by decide) rfl rfl ?_
        refine wa_aloadV_n (pc := 64) (y := mX1_instruction) dX1_instruction_64 rfl (by first | exact rf_s _ | exact rf_n | exact rf_q _) ?_
        refine wf_getN (k := 4) (l := 2) 0 dX1_instruction_65 (by assumption) rfl q437 (Or.inl rfl) (Nat.le_of_ble_eq_true rfl) (Nat.le_of_ble_eq_true rfl) (by (repeat (first | exact updF_self _ _ _ _ | (apply updF_i; · decide) | (apply updF_a; · first | assumption | (apply Ne.symm; assumption) | omega) | (apply newF_a; · first | assumption | (apply Ne.symm; assumption) | omega) | exact newL_self (by rfl) | exact newF_self (by rfl) | (apply cpyF_a; · first | assumption | (apply Ne.symm; assumption) | omega))) <;> first | assumption | rfl) ?_
        refine wa_ireturn (pc := 68) (y := mX1_instruction) .int dX1_instruction_68 rfl rfl (OpQ.val ch2 (by omega) R2 (by rw [hO]; rfl) (by rw [hO]; exact g1) (by rw [hO]; rfl) (by rw [hO]; exact SgE.v7))
      · have hO : O_instruction f σ (Int32.ofNat m) (Int32.ofNat 1) = oR f σ (f (162 + 4 * m + 1)) := hO0
        refine wa_iload_n (pc := 0) (y := mX1_instruction) dX1_instruction_0 rfl ?_
        refine wa_iconst (pc := 1) (y := mX1_instruction) (Int32.ofNat 0) dX1_instruction_1 rfl ?_
        refine wa_aloadV_n (pc := 2) (y := mX1_instruction) dX1_instruction_2 rfl (by first | exact rf_s _ | exact rf_n | exact rf_q _) ?_
        refine wf_get (k := 0) (l := 9) 0 dX1_instruction_3 (by assumption) rfl q1111 (Or.inl rfl) (Nat.le_of_ble_eq_true rfl) (Nat.le_of_ble_eq_true rfl) (by (repeat (first | exact updF_self _ _ _ _ | (apply updF_i; · decide) | (apply updF_a; · first | assumption | (apply Ne.symm; assumption) | omega) | (apply newF_a; · first | assumption | (apply Ne.symm; assumption) | omega) | exact newL_self (by rfl) | exact newF_self (by rfl) | (apply cpyF_a; · first | assumption | (apply Ne.symm; assumption) | omega))) <;> first | assumption | rfl) ?_
        refine wf_getN (k := 1) (l := 8) 1 dX1_instruction_6 (by assumption) rfl q358 (Or.inl rfl) (Nat.le_of_ble_eq_true rfl) (Nat.le_of_ble_eq_true rfl) (by (repeat (first | exact updF_self _ _ _ _ | (apply updF_i; · decide) | (apply updF_a; · first | assumption | (apply Ne.symm; assumption) | omega) | (apply newF_a; · first | assumption | (apply Ne.symm; assumption) | omega) | exact newL_self (by rfl) | exact newF_self (by rfl) | (apply cpyF_a; · first | assumption | (apply Ne.symm; assumption) | omega))) <;> first | assumption | rfl) ?_
        refine wa_callW (k := 12) (pc := 9) (owner := "java/util/HashMap") (s_J4_size (d := d - 1) S.im) dX1_instruction_9 okJ4_size rfl q2194 q1990 (hDc_code q1242 q1244) (by decide) q1992 q1242 (sF_at (by assumption)) rfl rfl rfl rfl (Nat.le_of_ble_eq_true rfl) (Nat.le_of_ble_eq_true rfl) (by omega) ?_
        rintro _ _ - - ⟨rfl, rfl⟩
        refine aft_v (pc2 := 12) ?_ rfl
        refine wa_iconst (pc := 12) (y := mX1_instruction) (Int32.ofNat 1) dX1_instruction_12 rfl ?_
        refine wa_isub (pc := 13) (y := mX1_instruction) dX1_instruction_13 ?_
        refine wa_callS (pc := 14) (s_X1_isIn (d := d - 1)) dX1_instruction_14 okX1_isIn q2020 q1692 rfl rfl (Nat.le_of_ble_eq_true rfl) (Nat.le_of_ble_eq_true rfl) (by omega) ?_
        rintro _ _ - - ⟨rfl, rfl⟩
        refine aft_v (pc2 := 17) ?_ rfl
        rw [show inb (Int32.ofNat m) (Int32.ofNat 0) (Int32.ofNat A.ns.length - Int32.ofNat 1) = true from (inb_sz (by omega)).trans (decide_eq_true (by rw [hmv, ← hni]; exact hv))]
        refine wa_callS (pc := 17) (s_X1_checkElement (d := d - 1) (b := true) (by omega)) dX1_instruction_17 okX1_checkElement q2021 q2022 rfl rfl (Nat.le_of_ble_eq_true rfl) (Nat.le_of_ble_eq_true rfl) (by omega) ?_
        rintro r h' - - (⟨-, rfl, rfl⟩ | ⟨hb, -⟩)
        rotate_left
        · cases hb
        refine aft_0 (pc2 := 20) ?_ rfl
        refine wa_iload_n (pc := 20) (y := mX1_instruction) dX1_instruction_20 rfl ?_
        refine wa_iconst (pc := 21) (y := mX1_instruction) (Int32.ofNat 0) dX1_instruction_21 rfl ?_
        refine wa_iconst (pc := 22) (y := mX1_instruction) (Int32.ofNat 3) dX1_instruction_22 rfl ?_
        refine wa_callS (pc := 23) (s_X1_isIn (d := d - 1)) dX1_instruction_23 okX1_isIn q2020 q1692 rfl rfl (Nat.le_of_ble_eq_true rfl) (Nat.le_of_ble_eq_true rfl) (by omega) ?_
        rintro _ _ - - ⟨rfl, rfl⟩
        refine aft_v (pc2 := 26) ?_ rfl
        rw [show inb (Int32.ofNat 1) (Int32.ofNat 0) (Int32.ofNat 3) = true from by decide]
        refine wa_callS (pc := 26) (s_X1_checkArgument (d := d - 1) (b := true) (by omega)) dX1_instruction_26 okX1_checkArgument q2038 q1699 rfl rfl (Nat.le_of_ble_eq_true rfl) (Nat.le_of_ble_eq_true rfl) (by omega) ?_
        rintro r h' - - (⟨-, rfl, rfl⟩ | ⟨hb, -⟩)
        rotate_left
        · cases hb
        refine aft_0 (pc2 := 29) ?_ rfl
        refine wa_aloadV_n (pc := 29) (y := mX1_instruction) dX1_instruction_29 rfl (by first | exact rf_s _ | exact rf_n | exact rf_q _) ?_
        refine wa_iload_n (pc := 30) (y := mX1_instruction) dX1_instruction_30 rfl ?_
        refine wa_callV (pc := 31) (s_X1_keyAt (d := d - 1) (i := m) (by omega) R hv) dX1_instruction_31 okX1_keyAt q2195 q2197 qs22 (sF_at (by assumption)) rfl rfl rfl (Nat.le_of_ble_eq_true rfl) (Nat.le_of_ble_eq_true rfl) (by omega) ?_
        rintro _ _ - - ⟨h2, F2, own2, q, k, rfl, rfl, ch2, R2, K, g1, g2⟩
        refine aft_v (pc2 := 34) ?_ rfl
        have K1 := K.1; have K2 := K.2.1; have K3 := K.2.2.1
        refine wa_astoreV_n (pc := 34) (y := mX1_instruction) dX1_instruction_34 (Nat.le_of_ble_eq_true rfl) (by first | rfl | (simp [okst, rf_cat] <;> assumption)) (by first | exact rf_s _ | exact rf_n | exact rf_q _) ?_
        change WA _ _ _ _ (List.set _ 3 _) _ _ _
        simp only [List.set_cons_zero, List.set_cons_succ]
        refine wa_iload_n (pc := 35) (y := mX1_instruction) dX1_instruction_35 rfl ?_
        refine wa_tableIn (pc := 36) (y := mX1_instruction) 69 dX1_instruction_36 (by decide) (by decide) rfl rfl ?_
        refine wa_aloadV_n (pc := 69) (y := mX1_instruction) dX1_instruction_69 rfl (by first | exact rf_s _ | exact rf_n | exact rf_q _) ?_
        refine wf_getN (k := 4) (l := 2) 1 dX1_instruction_70 (by assumption) rfl q439 (Or.inl rfl) (Nat.le_of_ble_eq_true rfl) (Nat.le_of_ble_eq_true rfl) (by (repeat (first | exact updF_self _ _ _ _ | (apply updF_i; · decide) | (apply updF_a; · first | assumption | (apply Ne.symm; assumption) | omega) | (apply newF_a; · first | assumption | (apply Ne.symm; assumption) | omega) | exact newL_self (by rfl) | exact newF_self (by rfl) | (apply cpyF_a; · first | assumption | (apply Ne.symm; assumption) | omega))) <;> first | assumption | rfl) ?_
        refine wa_ireturn (pc := 73) (y := mX1_instruction) .int dX1_instruction_73 rfl rfl (OpQ.val ch2 (by omega) R2 (by rw [hO]; rfl) (by rw [hO]; exact g2) (by rw [hO]; rfl) (by rw [hO]; exact SgE.v7))
      · have hO : O_instruction f σ (Int32.ofNat m) (Int32.ofNat 2) = oR f σ (f (162 + 4 * m + 2)) := hO0
        refine wa_iload_n (pc := 0) (y := mX1_instruction) dX1_instruction_0 rfl ?_
        refine wa_iconst (pc := 1) (y := mX1_instruction) (Int32.ofNat 0) dX1_instruction_1 rfl ?_
        refine wa_aloadV_n (pc := 2) (y := mX1_instruction) dX1_instruction_2 rfl (by first | exact rf_s _ | exact rf_n | exact rf_q _) ?_
        refine wf_get (k := 0) (l := 9) 0 dX1_instruction_3 (by assumption) rfl q1111 (Or.inl rfl) (Nat.le_of_ble_eq_true rfl) (Nat.le_of_ble_eq_true rfl) (by (repeat (first | exact updF_self _ _ _ _ | (apply updF_i; · decide) | (apply updF_a; · first | assumption | (apply Ne.symm; assumption) | omega) | (apply newF_a; · first | assumption | (apply Ne.symm; assumption) | omega) | exact newL_self (by rfl) | exact newF_self (by rfl) | (apply cpyF_a; · first | assumption | (apply Ne.symm; assumption) | omega))) <;> first | assumption | rfl) ?_
        refine wf_getN (k := 1) (l := 8) 1 dX1_instruction_6 (by assumption) rfl q358 (Or.inl rfl) (Nat.le_of_ble_eq_true rfl) (Nat.le_of_ble_eq_true rfl) (by (repeat (first | exact updF_self _ _ _ _ | (apply updF_i; · decide) | (apply updF_a; · first | assumption | (apply Ne.symm; assumption) | omega) | (apply newF_a; · first | assumption | (apply Ne.symm; assumption) | omega) | exact newL_self (by rfl) | exact newF_self (by rfl) | (apply cpyF_a; · first | assumption | (apply Ne.symm; assumption) | omega))) <;> first | assumption | rfl) ?_
        refine wa_callW (k := 12) (pc := 9) (owner := "java/util/HashMap") (s_J4_size (d := d - 1) S.im) dX1_instruction_9 okJ4_size rfl q2194 q1990 (hDc_code q1242 q1244) (by decide) q1992 q1242 (sF_at (by assumption)) rfl rfl rfl rfl (Nat.le_of_ble_eq_true rfl) (Nat.le_of_ble_eq_true rfl) (by omega) ?_
        rintro _ _ - - ⟨rfl, rfl⟩
        refine aft_v (pc2 := 12) ?_ rfl
        refine wa_iconst (pc := 12) (y := mX1_instruction) (Int32.ofNat 1) dX1_instruction_12 rfl ?_
        refine wa_isub (pc := 13) (y := mX1_instruction) dX1_instruction_13 ?_
        refine wa_callS (pc := 14) (s_X1_isIn (d := d - 1)) dX1_instruction_14 okX1_isIn q2020 q1692 rfl rfl (Nat.le_of_ble_eq_true rfl) (Nat.le_of_ble_eq_true rfl) (by omega) ?_
        rintro _ _ - - ⟨rfl, rfl⟩
        refine aft_v (pc2 := 17) ?_ rfl
        rw [show inb (Int32.ofNat m) (Int32.ofNat 0) (Int32.ofNat A.ns.length - Int32.ofNat 1) = true from (inb_sz (by omega)).trans (decide_eq_true (by rw [hmv, ← hni]; exact hv))]
        refine wa_callS (pc := 17) (s_X1_checkElement (d := d - 1) (b := true) (by omega)) dX1_instruction_17 okX1_checkElement q2021 q2022 rfl rfl (Nat.le_of_ble_eq_true rfl) (Nat.le_of_ble_eq_true rfl) (by omega) ?_
        rintro r h' - - (⟨-, rfl, rfl⟩ | ⟨hb, -⟩)
        rotate_left
        · cases hb
        refine aft_0 (pc2 := 20) ?_ rfl
        refine wa_iload_n (pc := 20) (y := mX1_instruction) dX1_instruction_20 rfl ?_
        refine wa_iconst (pc := 21) (y := mX1_instruction) (Int32.ofNat 0) dX1_instruction_21 rfl ?_
        refine wa_iconst (pc := 22) (y := mX1_instruction) (Int32.ofNat 3) dX1_instruction_22 rfl ?_
        refine wa_callS (pc := 23) (s_X1_isIn (d := d - 1)) dX1_instruction_23 okX1_isIn q2020 q1692 rfl rfl (Nat.le_of_ble_eq_true rfl) (Nat.le_of_ble_eq_true rfl) (by omega) ?_
        rintro _ _ - - ⟨rfl, rfl⟩
        refine aft_v (pc2 := 26) ?_ rfl
        rw [show inb (Int32.ofNat 2) (Int32.ofNat 0) (Int32.ofNat 3) = true from by decide]
        refine wa_callS (pc := 26) (s_X1_checkArgument (d := d - 1) (b := true) (by omega)) dX1_instruction_26 okX1_checkArgument q2038 q1699 rfl rfl (Nat.le_of_ble_eq_true rfl) (Nat.le_of_ble_eq_true rfl) (by omega) ?_
        rintro r h' - - (⟨-, rfl, rfl⟩ | ⟨hb, -⟩)
        rotate_left
        · cases hb
        refine aft_0 (pc2 := 29) ?_ rfl
        refine wa_aloadV_n (pc := 29) (y := mX1_instruction) dX1_instruction_29 rfl (by first | exact rf_s _ | exact rf_n | exact rf_q _) ?_
        refine wa_iload_n (pc := 30) (y := mX1_instruction) dX1_instruction_30 rfl ?_
        refine wa_callV (pc := 31) (s_X1_keyAt (d := d - 1) (i := m) (by omega) R hv) dX1_instruction_31 okX1_keyAt q2195 q2197 qs22 (sF_at (by assumption)) rfl rfl rfl (Nat.le_of_ble_eq_true rfl) (Nat.le_of_ble_eq_true rfl) (by omega) ?_
        rintro _ _ - - ⟨h2, F2, own2, q, k, rfl, rfl, ch2, R2, K, g1, g2⟩
        refine aft_v (pc2 := 34) ?_ rfl
        have K1 := K.1; have K2 := K.2.1; have K3 := K.2.2.1
        obtain ⟨gf2, A2, N2⟩ := id R2.sh
        obtain ⟨p2, hm2, hk2, T2⟩ := R2.keyX K hv g1 g2 A2 N2
        have S2 := N2.2; have j1 := R2.is; have j2 := R2.f0; have j3 := S2.is; have j4 := S2.f1; have j5 := S2.im.1
        refine wa_astoreV_n (pc := 34) (y := mX1_instruction) dX1_instruction_34 (Nat.le_of_ble_eq_true rfl) (by first | rfl | (simp [okst, rf_cat] <;> assumption)) (by first | exact rf_s _ | exact rf_n | exact rf_q _) ?_
        change WA _ _ _ _ (List.set _ 3 _) _ _ _
        simp only [List.set_cons_zero, List.set_cons_succ]
        refine wa_iload_n (pc := 35) (y := mX1_instruction) dX1_instruction_35 rfl ?_
        refine wa_tableIn (pc := 36) (y := mX1_instruction) 74 dX1_instruction_36 (by decide) (by decide) rfl rfl ?_
        refine wa_aloadV_n (pc := 74) (y := mX1_instruction) dX1_instruction_74 rfl (by first | exact rf_s _ | exact rf_n | exact rf_q _) ?_
        refine wf_get (k := 0) (l := 9) 0 dX1_instruction_75 (by assumption) rfl q1111 (Or.inl rfl) (Nat.le_of_ble_eq_true rfl) (Nat.le_of_ble_eq_true rfl) (by (repeat (first | exact updF_self _ _ _ _ | (apply updF_i; · decide) | (apply updF_a; · first | assumption | (apply Ne.symm; assumption) | omega) | (apply newF_a; · first | assumption | (apply Ne.symm; assumption) | omega) | exact newL_self (by rfl) | exact newF_self (by rfl) | (apply cpyF_a; · first | assumption | (apply Ne.symm; assumption) | omega))) <;> first | assumption | rfl) ?_
        refine wf_getN (k := 1) (l := 8) 1 dX1_instruction_78 (by assumption) rfl q358 (Or.inl rfl) (Nat.le_of_ble_eq_true rfl) (Nat.le_of_ble_eq_true rfl) (by (repeat (first | exact updF_self _ _ _ _ | (apply updF_i; · decide) | (apply updF_a; · first | assumption | (apply Ne.symm; assumption) | omega) | (apply newF_a; · first | assumption | (apply Ne.symm; assumption) | omega) | exact newL_self (by rfl) | exact newF_self (by rfl) | (apply cpyF_a; · first | assumption | (apply Ne.symm; assumption) | omega))) <;> first | assumption | rfl) ?_
        refine wa_aloadV_n (pc := 81) (y := mX1_instruction) dX1_instruction_81 rfl (by first | exact rf_s _ | exact rf_n | exact rf_q _) ?_
        refine wa_callV (pc := 82) (s_J5_get (d := d - 1) (by omega) S2.im K) dX1_instruction_82 okJ5_get q2205 q446 q447 (sF_at (by assumption)) rfl rfl rfl (Nat.le_of_ble_eq_true rfl) (Nat.le_of_ble_eq_true rfl) (by omega) ?_
        rintro _ _ - - ⟨rfl, (⟨p9, hp9, hk9, rfl⟩ | ⟨hno, -⟩)⟩
        rotate_left
        · exact absurd hk2 (hno p2 hm2)
        have e9 := S2.inj hp9 hm2 (hk9.trans hk2.symm); subst e9
        refine aft_v (pc2 := 85) ?_ rfl
        exact ins_85 R2 ch2 (by omega) (by omega) T2 hO
      · have hO : O_instruction f σ (Int32.ofNat m) (Int32.ofNat 3) = oR f σ (f (162 + 4 * m + 3)) := hO0
        refine wa_iload_n (pc := 0) (y := mX1_instruction) dX1_instruction_0 rfl ?_
        refine wa_iconst (pc := 1) (y := mX1_instruction) (Int32.ofNat 0) dX1_instruction_1 rfl ?_
        refine wa_aloadV_n (pc := 2) (y := mX1_instruction) dX1_instruction_2 rfl (by first | exact rf_s _ | exact rf_n | exact rf_q _) ?_
        refine wf_get (k := 0) (l := 9) 0 dX1_instruction_3 (by assumption) rfl q1111 (Or.inl rfl) (Nat.le_of_ble_eq_true rfl) (Nat.le_of_ble_eq_true rfl) (by (repeat (first | exact updF_self _ _ _ _ | (apply updF_i; · decide) | (apply updF_a; · first | assumption | (apply Ne.symm; assumption) | omega) | (apply newF_a; · first | assumption | (apply Ne.symm; assumption) | omega) | exact newL_self (by rfl) | exact newF_self (by rfl) | (apply cpyF_a; · first | assumption | (apply Ne.symm; assumption) | omega))) <;> first | assumption | rfl) ?_
        refine wf_getN (k := 1) (l := 8) 1 dX1_instruction_6 (by assumption) rfl q358 (Or.inl rfl) (Nat.le_of_ble_eq_true rfl) (Nat.le_of_ble_eq_true rfl) (by (repeat (first | exact updF_self _ _ _ _ | (apply updF_i; · decide) | (apply updF_a; · first | assumption | (apply Ne.symm; assumption) | omega) | (apply newF_a; · first | assumption | (apply Ne.symm; assumption) | omega) | exact newL_self (by rfl) | exact newF_self (by rfl) | (apply cpyF_a; · first | assumption | (apply Ne.symm; assumption) | omega))) <;> first | assumption | rfl) ?_
        refine wa_callW (k := 12) (pc := 9) (owner := "java/util/HashMap") (s_J4_size (d := d - 1) S.im) dX1_instruction_9 okJ4_size rfl q2194 q1990 (hDc_code q1242 q1244) (by decide) q1992 q1242 (sF_at (by assumption)) rfl rfl rfl rfl (Nat.le_of_ble_eq_true rfl) (Nat.le_of_ble_eq_true rfl) (by omega) ?_
        rintro _ _ - - ⟨rfl, rfl⟩
        refine aft_v (pc2 := 12) ?_ rfl
        refine wa_iconst (pc := 12) (y := mX1_instruction) (Int32.ofNat 1) dX1_instruction_12 rfl ?_
        refine wa_isub (pc := 13) (y := mX1_instruction) dX1_instruction_13 ?_
        refine wa_callS (pc := 14) (s_X1_isIn (d := d - 1)) dX1_instruction_14 okX1_isIn q2020 q1692 rfl rfl (Nat.le_of_ble_eq_true rfl) (Nat.le_of_ble_eq_true rfl) (by omega) ?_
        rintro _ _ - - ⟨rfl, rfl⟩
        refine aft_v (pc2 := 17) ?_ rfl
        rw [show inb (Int32.ofNat m) (Int32.ofNat 0) (Int32.ofNat A.ns.length - Int32.ofNat 1) = true from (inb_sz (by omega)).trans (decide_eq_true (by rw [hmv, ← hni]; exact hv))]
        refine wa_callS (pc := 17) (s_X1_checkElement (d := d - 1) (b := true) (by omega)) dX1_instruction_17 okX1_checkElement q2021 q2022 rfl rfl (Nat.le_of_ble_eq_true rfl) (Nat.le_of_ble_eq_true rfl) (by omega) ?_
        rintro r h' - - (⟨-, rfl, rfl⟩ | ⟨hb, -⟩)
        rotate_left
        · cases hb
        refine aft_0 (pc2 := 20) ?_ rfl
        refine wa_iload_n (pc := 20) (y := mX1_instruction) dX1_instruction_20 rfl ?_
        refine wa_iconst (pc := 21) (y := mX1_instruction) (Int32.ofNat 0) dX1_instruction_21 rfl ?_
        refine wa_iconst (pc := 22) (y := mX1_instruction) (Int32.ofNat 3) dX1_instruction_22 rfl ?_
        refine wa_callS (pc := 23) (s_X1_isIn (d := d - 1)) dX1_instruction_23 okX1_isIn q2020 q1692 rfl rfl (Nat.le_of_ble_eq_true rfl) (Nat.le_of_ble_eq_true rfl) (by omega) ?_
        rintro _ _ - - ⟨rfl, rfl⟩
        refine aft_v (pc2 := 26) ?_ rfl
        rw [show inb (Int32.ofNat 3) (Int32.ofNat 0) (Int32.ofNat 3) = true from by decide]
        refine wa_callS (pc := 26) (s_X1_checkArgument (d := d - 1) (b := true) (by omega)) dX1_instruction_26 okX1_checkArgument q2038 q1699 rfl rfl (Nat.le_of_ble_eq_true rfl) (Nat.le_of_ble_eq_true rfl) (by omega) ?_
        rintro r h' - - (⟨-, rfl, rfl⟩ | ⟨hb, -⟩)
        rotate_left
        · cases hb
        refine aft_0 (pc2 := 29) ?_ rfl
        refine wa_aloadV_n (pc := 29) (y := mX1_instruction) dX1_instruction_29 rfl (by first | exact rf_s _ | exact rf_n | exact rf_q _) ?_
        refine wa_iload_n (pc := 30) (y := mX1_instruction) dX1_instruction_30 rfl ?_
        refine wa_callV (pc := 31) (s_X1_keyAt (d := d - 1) (i := m) (by omega) R hv) dX1_instruction_31 okX1_keyAt q2195 q2197 qs22 (sF_at (by assumption)) rfl rfl rfl (Nat.le_of_ble_eq_true rfl) (Nat.le_of_ble_eq_true rfl) (by omega) ?_
        rintro _ _ - - ⟨h2, F2, own2, q, k, rfl, rfl, ch2, R2, K, g1, g2⟩
        refine aft_v (pc2 := 34) ?_ rfl
        have K1 := K.1; have K2 := K.2.1; have K3 := K.2.2.1
        obtain ⟨gf2, A2, N2⟩ := id R2.sh
        obtain ⟨p2, hm2, hk2, T2⟩ := R2.keyX K hv g1 g2 A2 N2
        have S2 := N2.2; have j1 := R2.is; have j2 := R2.f0; have j3 := S2.is; have j4 := S2.f1; have j5 := S2.im.1
        refine wa_astoreV_n (pc := 34) (y := mX1_instruction) dX1_instruction_34 (Nat.le_of_ble_eq_true rfl) (by first | rfl | (simp [okst, rf_cat] <;> assumption)) (by first | exact rf_s _ | exact rf_n | exact rf_q _) ?_
        change WA _ _ _ _ (List.set _ 3 _) _ _ _
        simp only [List.set_cons_zero, List.set_cons_succ]
        refine wa_iload_n (pc := 35) (y := mX1_instruction) dX1_instruction_35 rfl ?_
        refine wa_tableOut (pc := 36) (y := mX1_instruction) 92 dX1_instruction_36 (by decide) rfl ?_
        refine wa_aloadV_n (pc := 92) (y := mX1_instruction) dX1_instruction_92 rfl (by first | exact rf_s _ | exact rf_n | exact rf_q _) ?_
        refine wf_get (k := 0) (l := 9) 0 dX1_instruction_93 (by assumption) rfl q1111 (Or.inl rfl) (Nat.le_of_ble_eq_true rfl) (Nat.le_of_ble_eq_true rfl) (by (repeat (first | exact updF_self _ _ _ _ | (apply updF_i; · decide) | (apply updF_a; · first | assumption | (apply Ne.symm; assumption) | omega) | (apply newF_a; · first | assumption | (apply Ne.symm; assumption) | omega) | exact newL_self (by rfl) | exact newF_self (by rfl) | (apply cpyF_a; · first | assumption | (apply Ne.symm; assumption) | omega))) <;> first | assumption | rfl) ?_
        refine wf_getN (k := 1) (l := 8) 1 dX1_instruction_96 (by assumption) rfl q358 (Or.inl rfl) (Nat.le_of_ble_eq_true rfl) (Nat.le_of_ble_eq_true rfl) (by (repeat (first | exact updF_self _ _ _ _ | (apply updF_i; · decide) | (apply updF_a; · first | assumption | (apply Ne.symm; assumption) | omega) | (apply newF_a; · first | assumption | (apply Ne.symm; assumption) | omega) | exact newL_self (by rfl) | exact newF_self (by rfl) | (apply cpyF_a; · first | assumption | (apply Ne.symm; assumption) | omega))) <;> first | assumption | rfl) ?_
        refine wa_aloadV_n (pc := 99) (y := mX1_instruction) dX1_instruction_99 rfl (by first | exact rf_s _ | exact rf_n | exact rf_q _) ?_
        refine wa_callV (pc := 100) (s_J5_get (d := d - 1) (by omega) S2.im K) dX1_instruction_100 okJ5_get q2205 q446 q447 (sF_at (by assumption)) rfl rfl rfl (Nat.le_of_ble_eq_true rfl) (Nat.le_of_ble_eq_true rfl) (by omega) ?_
        rintro _ _ - - ⟨rfl, (⟨p9, hp9, hk9, rfl⟩ | ⟨hno, -⟩)⟩
        rotate_left
        · exact absurd hk2 (hno p2 hm2)
        have e9 := S2.inj hp9 hm2 (hk9.trans hk2.symm); subst e9
        refine aft_v (pc2 := 103) ?_ rfl
        exact ins_103 R2 ch2 (by omega) T2 hO
    · have hO : O_instruction f σ v w = oX f σ 2 := (if_neg (Decidable.not_not.mpr hv)).trans (if_pos hw)
      refine wa_iload_n (pc := 0) (y := mX1_instruction) dX1_instruction_0 rfl ?_
      refine wa_iconst (pc := 1) (y := mX1_instruction) (Int32.ofNat 0) dX1_instruction_1 rfl ?_
      refine wa_aloadV_n (pc := 2) (y := mX1_instruction) dX1_instruction_2 rfl (by first | exact rf_s _ | exact rf_n | exact rf_q _) ?_
      refine wf_get (k := 0) (l := 9) 0 dX1_instruction_3 (by assumption) rfl q1111 (Or.inl rfl) (Nat.le_of_ble_eq_true rfl) (Nat.le_of_ble_eq_true rfl) (by (repeat (first | exact updF_self _ _ _ _ | (apply updF_i; · decide) | (apply updF_a; · first | assumption | (apply Ne.symm; assumption) | omega) | (apply newF_a; · first | assumption | (apply Ne.symm; assumption) | omega) | exact newL_self (by rfl) | exact newF_self (by rfl) | (apply cpyF_a; · first | assumption | (apply Ne.symm; assumption) | omega))) <;> first | assumption | rfl) ?_
      refine wf_getN (k := 1) (l := 8) 1 dX1_instruction_6 (by assumption) rfl q358 (Or.inl rfl) (Nat.le_of_ble_eq_true rfl) (Nat.le_of_ble_eq_true rfl) (by (repeat (first | exact updF_self _ _ _ _ | (apply updF_i; · decide) | (apply updF_a; · first | assumption | (apply Ne.symm; assumption) | omega) | (apply newF_a; · first | assumption | (apply Ne.symm; assumption) | omega) | exact newL_self (by rfl) | exact newF_self (by rfl) | (apply cpyF_a; · first | assumption | (apply Ne.symm; assumption) | omega))) <;> first | assumption | rfl) ?_
      refine wa_callW (k := 12) (pc := 9) (owner := "java/util/HashMap") (s_J4_size (d := d - 1) S.im) dX1_instruction_9 okJ4_size rfl q2194 q1990 (hDc_code q1242 q1244) (by decide) q1992 q1242 (sF_at (by assumption)) rfl rfl rfl rfl (Nat.le_of_ble_eq_true rfl) (Nat.le_of_ble_eq_true rfl) (by omega) ?_
      rintro _ _ - - ⟨rfl, rfl⟩
      refine aft_v (pc2 := 12) ?_ rfl
      refine wa_iconst (pc := 12) (y := mX1_instruction) (Int32.ofNat 1) dX1_instruction_12 rfl ?_
      refine wa_isub (pc := 13) (y := mX1_instruction) dX1_instruction_13 ?_
      refine wa_callS (pc := 14) (s_X1_isIn (d := d - 1)) dX1_instruction_14 okX1_isIn q2020 q1692 rfl rfl (Nat.le_of_ble_eq_true rfl) (Nat.le_of_ble_eq_true rfl) (by omega) ?_
      rintro _ _ - - ⟨rfl, rfl⟩
      refine aft_v (pc2 := 17) ?_ rfl
      rw [show inb v (Int32.ofNat 0) (Int32.ofNat A.ns.length - Int32.ofNat 1) = true from (inb_sz (by omega)).trans (decide_eq_true (by rw [← hni]; exact hv))]
      refine wa_callS (pc := 17) (s_X1_checkElement (d := d - 1) (b := true) (by omega)) dX1_instruction_17 okX1_checkElement q2021 q2022 rfl rfl (Nat.le_of_ble_eq_true rfl) (Nat.le_of_ble_eq_true rfl) (by omega) ?_
      rintro r h' - - (⟨-, rfl, rfl⟩ | ⟨hb, -⟩)
      rotate_left
      · cases hb
      refine aft_0 (pc2 := 20) ?_ rfl
      refine wa_iload_n (pc := 20) (y := mX1_instruction) dX1_instruction_20 rfl ?_
      refine wa_iconst (pc := 21) (y := mX1_instruction) (Int32.ofNat 0) dX1_instruction_21 rfl ?_
      refine wa_iconst (pc := 22) (y := mX1_instruction) (Int32.ofNat 3) dX1_instruction_22 rfl ?_
      refine wa_callS (pc := 23) (s_X1_isIn (d := d - 1)) dX1_instruction_23 okX1_isIn q2020 q1692 rfl rfl (Nat.le_of_ble_eq_true rfl) (Nat.le_of_ble_eq_true rfl) (by omega) ?_
      rintro _ _ - - ⟨rfl, rfl⟩
      refine aft_v (pc2 := 26) ?_ rfl
      rw [show inb w (Int32.ofNat 0) (Int32.ofNat 3) = false from (inb3 w).trans (decide_eq_false hw)]
      refine wa_callS (pc := 26) (s_X1_checkArgument (d := d - 1) (b := false) (by omega)) dX1_instruction_26 okX1_checkArgument q2038 q1699 rfl rfl (Nat.le_of_ble_eq_true rfl) (Nat.le_of_ble_eq_true rfl) (by omega) ?_
      rintro r h' - - (⟨hb, -, -⟩ | ⟨-, T⟩)
      · cases hb
      exact T.after ⟨_, rfl⟩ rfl fun h3 F3 q fr cst iq => OpQ.thr ch (by omega) R fr cst iq (by rw [hO]; exact Nat.succ_ne_zero _) (by rw [hO]; rfl) (by rw [hO]; rfl) (by rw [hO]; exact SgE.v7)
  · have hO : O_instruction f σ v w = oX f σ 1 := if_pos hv
    refine wa_iload_n (pc := 0) (y := mX1_instruction) dX1_instruction_0 rfl ?_
    refine wa_iconst (pc := 1) (y := mX1_instruction) (Int32.ofNat 0) dX1_instruction_1 rfl ?_
    refine wa_aloadV_n (pc := 2) (y := mX1_instruction) dX1_instruction_2 rfl (by first | exact rf_s _ | exact rf_n | exact rf_q _) ?_
    refine wf_get (k := 0) (l := 9) 0 dX1_instruction_3 (by assumption) rfl q1111 (Or.inl rfl) (Nat.le_of_ble_eq_true rfl) (Nat.le_of_ble_eq_true rfl) (by (repeat (first | exact updF_self _ _ _ _ | (apply updF_i; · decide) | (apply updF_a; · first | assumption | (apply Ne.symm; assumption) | omega) | (apply newF_a; · first | assumption | (apply Ne.symm; assumption) | omega) | exact newL_self (by rfl) | exact newF_self (by rfl) | (apply cpyF_a; · first | assumption | (apply Ne.symm; assumption) | omega))) <;> first | assumption | rfl) ?_
    refine wf_getN (k := 1) (l := 8) 1 dX1_instruction_6 (by assumption) rfl q358 (Or.inl rfl) (Nat.le_of_ble_eq_true rfl) (Nat.le_of_ble_eq_true rfl) (by (repeat (first | exact updF_self _ _ _ _ | (apply updF_i; · decide) | (apply updF_a; · first | assumption | (apply Ne.symm; assumption) | omega) | (apply newF_a; · first | assumption | (apply Ne.symm; assumption) | omega) | exact newL_self (by rfl) | exact newF_self (by rfl) | (apply cpyF_a; · first | assumption | (apply Ne.symm; assumption) | omega))) <;> first | assumption | rfl) ?_
    refine wa_callW (k := 12) (pc := 9) (owner := "java/util/HashMap") (s_J4_size (d := d - 1) S.im) dX1_instruction_9 okJ4_size rfl q2194 q1990 (hDc_code q1242 q1244) (by decide) q1992 q1242 (sF_at (by assumption)) rfl rfl rfl rfl (Nat.le_of_ble_eq_true rfl) (Nat.le_of_ble_eq_true rfl) (by omega) ?_
    rintro _ _ - - ⟨rfl, rfl⟩
    refine aft_v (pc2 := 12) ?_ rfl
    refine wa_iconst (pc := 12) (y := mX1_instruction) (Int32.ofNat 1) dX1_instruction_12 rfl ?_
    refine wa_isub (pc := 13) (y := mX1_instruction) dX1_instruction_13 ?_
    refine wa_callS (pc := 14) (s_X1_isIn (d := d - 1)) dX1_instruction_14 okX1_isIn q2020 q1692 rfl rfl (Nat.le_of_ble_eq_true rfl) (Nat.le_of_ble_eq_true rfl) (by omega) ?_
    rintro _ _ - - ⟨rfl, rfl⟩
    refine aft_v (pc2 := 17) ?_ rfl
    rw [show inb v (Int32.ofNat 0) (Int32.ofNat A.ns.length - Int32.ofNat 1) = false from (inb_sz (by omega)).trans (decide_eq_false (by rw [← hni]; exact hv))]
    refine wa_callS (pc := 17) (s_X1_checkElement (d := d - 1) (b := false) (by omega)) dX1_instruction_17 okX1_checkElement q2021 q2022 rfl rfl (Nat.le_of_ble_eq_true rfl) (Nat.le_of_ble_eq_true rfl) (by omega) ?_
    rintro r h' - - (⟨hb, -, -⟩ | ⟨-, T⟩)
    · cases hb
    exact T.after ⟨_, rfl⟩ rfl fun h3 F3 q fr cst iq => OpQ.thr ch (by omega) R fr cst iq (by rw [hO]; exact Nat.succ_ne_zero _) (by rw [hO]; rfl) (by rw [hO]; rfl) (by rw [hO]; exact SgE.v7)
end OPS9
