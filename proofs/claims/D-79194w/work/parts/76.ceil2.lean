/-! ===== Math.ceil of s / 0.75 ===== -/
abbrev mJ7_getExponent : MD := (yJ7_getExponent, cJ7_getExponent, 2, (Option.some FieldType.int), [])
theorem okJ7_getExponent : callOK mJ7_getExponent 1 := ⟨by decide +kernel, q1257, q94, Nat.le_of_ble_eq_true rfl, by decide +kernel, by decide +kernel⟩
section CEIL2
variable {G : GG} {d n : Nat} {h0 h : AH} {Q : RR → AH → Prop} {s x c : Nat} {v : UInt64}
theorem ad_math {G : GG} (hG : StG G) : (Term.static "java/lang/StrictMath" "$assertionsDisabled" "Z").eval G.2.1 G.1 none [] G.1 = some (.int 1) :=
  va_eqt (flat_of_before _ hG (Cond.eq (.static "java/lang/StrictMath" "$assertionsDisabled" "Z") (.int 1)) (by decide +kernel))
/-- s / 0.75 -/
def qX (s : Nat) : UInt64 := FP.ddiv (FP.i2d (Int32.ofNat s)) (FP.f2d 1061158912)
def gex (v : UInt64) : Int32 := (((v.toInt64 &&& 9218868437227405312) >>> ((Int32.ofNat 52).toInt64 &&& 63)) - 1023).toInt32
def mskX (s : Nat) : Int64 := (4503599627370495 : Int64) >>> ((gex (qX s)).toInt64 &&& 63)
def loX (s : Nat) : UInt64 := (((qX s).toInt64) &&& (mskX s ^^^ (-1 : Int64))).toUInt64
def ceX (s : Nat) : UInt64 := if lg_cmp (mskX s &&& (qX s).toInt64) 0 = 0 then qX s else FP.dadd (loX s) FP.dconst1
theorem cx_1 : ∀ s, s < 97 → 1 ≤ s → 0 ≤ gex (qX s) ∧ gex (qX s) < 52 := by decide +kernel
theorem cx_2 : ∀ s, s < 97 → 1 ≤ s → vn_snl2d ((qX s).toInt64 &&& (mskX s ^^^ (-1 : Int64))) = false := by decide +kernel
theorem cx_3 : ∀ s, s < 97 → 1 ≤ s → ¬ Op.cmpValue (FP.dcmp (FP.dmul FP.dconst1 (qX s)) FP.dconst0) .l ≤ 0 := by decide +kernel
theorem cx_4 : ∀ s, s < 97 → 1 ≤ s → Op.cmpValue (FP.dcmp (ceX s) 4742290407621132288) .g < 0 := by decide +kernel
theorem cx_5 : ∀ s, s < 97 → 1 ≤ s → FP.d2i (ceX s) = Int32.ofNat ((4 * s + 2) / 3) := by decide +kernel
theorem cx_6 : ∀ s, s < 97 → 1 ≤ s → vf_n64 (qX s) := by
  unfold vf_n64
  decide +kernel
theorem cx_7 : vf_n64 (FP.f2d 1061158912) := by
  unfold vf_n64
  decide +kernel
theorem cx_8 : ∀ s, s < 97 → 1 ≤ s → vf_n64 (FP.dmul FP.dconst1 (qX s)) := by
  unfold vf_n64
  decide +kernel
theorem cx_9 : ∀ s, s < 97 → 1 ≤ s → vf_n64 (FP.dadd (loX s) FP.dconst1) := by
  unfold vf_n64
  decide +kernel
theorem s_J7_getExponent (hd : 1 ≤ d) : MA G d mJ7_getExponent [.double v] h0 (fun r h' => r = .inl (some (.int (gex v))) ∧ h' = h0) := by
  change WA G d mJ7_getExponent 0 [.double v, .retAddr 0] [] _ _
  refine wa_dload_n (pc := 0) (y := mJ7_getExponent) dJ7_getExponent_0 rfl ?_
  refine wa_d2l (pc := 1) (y := mJ7_getExponent) dJ7_getExponent_1 q1258 q1260 q1259 q118 (by decide) (by omega) ?_
  refine wa_ldc2 (pc := 4) (y := mJ7_getExponent) dJ7_getExponent_4 q1261 ?_
  refine wa_land (pc := 7) (y := mJ7_getExponent) dJ7_getExponent_7 ?_
  refine wa_bipush (pc := 8) (y := mJ7_getExponent) (Int32.ofNat 52) dJ7_getExponent_8 rfl ?_
  refine wa_lshr (pc := 10) (y := mJ7_getExponent) dJ7_getExponent_10 ?_
  refine wa_ldc2 (pc := 11) (y := mJ7_getExponent) dJ7_getExponent_11 q1262 ?_
  refine wa_lsub (pc := 14) (y := mJ7_getExponent) dJ7_getExponent_14 ?_
  refine wa_l2i (pc := 15) (y := mJ7_getExponent) dJ7_getExponent_15 ?_
  refine wa_ireturn (pc := 16) (y := mJ7_getExponent) .int dJ7_getExponent_16 rfl rfl ⟨rfl, rfl⟩
theorem s_J23_floorOrCeil (hd : 2 ≤ d) (hG : StG G) (hs : 1 ≤ s ∧ s < 97) (w : UInt64) : MA G d mJ23_floorOrCeil [.double (qX s), .double w, .double FP.dconst1, .double FP.dconst1] h0 (fun r h' => r = .inl (some (.double (ceX s))) ∧ h' = h0) := by
  have had := ad_math hG
  obtain ⟨c1, c1b⟩ := cx_1 s hs.2 hs.1
  change WA G d mJ23_floorOrCeil 0 [.double (qX s), .retAddr 0, .double w, .retAddr 0, .double FP.dconst1, .retAddr 0, .double FP.dconst1, .retAddr 0, .retAddr 0, .retAddr 0, .retAddr 0, .retAddr 0, .retAddr 0, .retAddr 0, .retAddr 0] [] _ _
  refine wa_dload_n (pc := 0) (y := mJ23_floorOrCeil) dJ23_floorOrCeil_0 rfl ?_
  refine wa_callS (pc := 1) (s_J7_getExponent (d := d - 1) (by omega)) dJ23_floorOrCeil_1 okJ7_getExponent q1255 q1256 rfl rfl (Nat.le_of_ble_eq_true rfl) (Nat.le_of_ble_eq_true rfl) (by omega) ?_
  rintro _ _ - - ⟨rfl, rfl⟩
  refine aft_v (pc2 := 4) ?_ rfl
  refine wa_istore (pc := 4) (y := mJ23_floorOrCeil) dJ23_floorOrCeil_4 (Nat.le_of_ble_eq_true rfl) (by first | rfl | (simp [okst, rf_cat] <;> assumption)) ?_
  simp only [List.set_cons_zero, List.set_cons_succ]
  refine wa_iload (pc := 6) (y := mJ23_floorOrCeil) dJ23_floorOrCeil_6 rfl ?_
  refine wa_if_ge (pc := 8) 34 dJ23_floorOrCeil_8 rfl (fun hb8 => ?_) (fun hb8 => absurd c1 hb8)
  refine wa_iload (pc := 34) (y := mJ23_floorOrCeil) dJ23_floorOrCeil_34 rfl ?_
  refine wa_bipush (pc := 36) (y := mJ23_floorOrCeil) (Int32.ofNat 52) dJ23_floorOrCeil_36 rfl ?_
  refine wa_icmp_lt (pc := 38) 43 dJ23_floorOrCeil_38 rfl (fun hb38 => ?_) (fun hb38 => absurd c1b hb38)
  refine wa_gets (pc := 43) (y := mJ23_floorOrCeil) dJ23_floorOrCeil_43 q1263 (Or.inl rfl) q1264 (lw_all_tbl q117) (had) ?_
  refine wa_if_ne (pc := 46) 69 dJ23_floorOrCeil_46 rfl (fun hb46 => ?_) (fun hb46 => absurd hb46 (by decide))
  refine wa_dload_n (pc := 69) (y := mJ23_floorOrCeil) dJ23_floorOrCeil_69 rfl ?_
  refine wa_d2l (pc := 70) (y := mJ23_floorOrCeil) dJ23_floorOrCeil_70 q1265 q1260 q1259 q118 (by decide) (by omega) ?_
  refine wa_lstore (pc := 73) (y := mJ23_floorOrCeil) dJ23_floorOrCeil_73 (Nat.le_of_ble_eq_true rfl) (by first | rfl | (simp [okst, rf_cat] <;> assumption)) ?_
  simp only [List.set_cons_zero, List.set_cons_succ]
  refine wa_ldc2 (pc := 75) (y := mJ23_floorOrCeil) dJ23_floorOrCeil_75 q1266 ?_
  refine wa_iload (pc := 78) (y := mJ23_floorOrCeil) dJ23_floorOrCeil_78 rfl ?_
  refine wa_lshr (pc := 80) (y := mJ23_floorOrCeil) dJ23_floorOrCeil_80 ?_
  refine wa_lstore (pc := 81) (y := mJ23_floorOrCeil) dJ23_floorOrCeil_81 (Nat.le_of_ble_eq_true rfl) (by first | rfl | (simp [okst, rf_cat] <;> assumption)) ?_
  simp only [List.set_cons_zero, List.set_cons_succ]
  refine wa_lload (pc := 83) (y := mJ23_floorOrCeil) dJ23_floorOrCeil_83 rfl ?_
  refine wa_lload (pc := 85) (y := mJ23_floorOrCeil) dJ23_floorOrCeil_85 rfl ?_
  refine wa_land (pc := 87) (y := mJ23_floorOrCeil) dJ23_floorOrCeil_87 ?_
  refine wa_lconst (pc := 88) (y := mJ23_floorOrCeil) (0) dJ23_floorOrCeil_88 rfl ?_
  refine wa_lcmp (pc := 89) (y := mJ23_floorOrCeil) dJ23_floorOrCeil_89 ?_
  refine wa_if_ne (pc := 90) 95 dJ23_floorOrCeil_90 rfl (fun hb90 => ?_) (fun hb90 => ?_)
  · refine wa_lload (pc := 95) (y := mJ23_floorOrCeil) dJ23_floorOrCeil_95 rfl ?_
    refine wa_lload (pc := 97) (y := mJ23_floorOrCeil) dJ23_floorOrCeil_97 rfl ?_
    refine wa_ldc2 (pc := 99) (y := mJ23_floorOrCeil) dJ23_floorOrCeil_99 q1267 ?_
    refine wa_lxor (pc := 102) (y := mJ23_floorOrCeil) dJ23_floorOrCeil_102 ?_
    refine wa_land (pc := 103) (y := mJ23_floorOrCeil) dJ23_floorOrCeil_103 ?_
    refine wa_l2d (pc := 104) (y := mJ23_floorOrCeil) (cx_2 s hs.2 hs.1) dJ23_floorOrCeil_104 q1268 q1270 q1269 q118 (by decide) (by omega) ?_
    refine wa_dstore (pc := 107) (y := mJ23_floorOrCeil) dJ23_floorOrCeil_107 (Nat.le_of_ble_eq_true rfl) (by first | rfl | (simp [okst, rf_cat] <;> assumption)) ?_
    simp only [List.set_cons_zero, List.set_cons_succ]
    refine wa_dload (pc := 109) (y := mJ23_floorOrCeil) dJ23_floorOrCeil_109 rfl ?_
    refine wa_dload_n (pc := 111) (y := mJ23_floorOrCeil) dJ23_floorOrCeil_111 rfl ?_
    refine wa_dmul (pc := 112) (y := mJ23_floorOrCeil) dJ23_floorOrCeil_112 (cx_8 s hs.2 hs.1) ?_
    refine wa_dconst0 (pc := 113) (y := mJ23_floorOrCeil) dJ23_floorOrCeil_113 ?_
    refine wa_dcmp (pc := 114) (y := mJ23_floorOrCeil) dJ23_floorOrCeil_114 ?_
    refine wa_if_le (pc := 115) 125 dJ23_floorOrCeil_115 rfl (fun hb115 => absurd hb115 (cx_3 s hs.2 hs.1)) (fun hb115 => ?_)
    refine wa_dload (pc := 118) (y := mJ23_floorOrCeil) dJ23_floorOrCeil_118 rfl ?_
    refine wa_dload (pc := 120) (y := mJ23_floorOrCeil) dJ23_floorOrCeil_120 rfl ?_
    refine wa_dadd (pc := 122) (y := mJ23_floorOrCeil) dJ23_floorOrCeil_122 (cx_9 s hs.2 hs.1) ?_
    refine wa_dstore (pc := 123) (y := mJ23_floorOrCeil) dJ23_floorOrCeil_123 (Nat.le_of_ble_eq_true rfl) (by first | rfl | (simp [okst, rf_cat] <;> assumption)) ?_
    simp only [List.set_cons_zero, List.set_cons_succ]
    refine wa_dload (pc := 125) (y := mJ23_floorOrCeil) dJ23_floorOrCeil_125 rfl ?_
    exact wa_dreturn (pc := 127) (y := mJ23_floorOrCeil) dJ23_floorOrCeil_127 rfl ⟨by unfold ceX loX mskX; rw [if_neg hb90], rfl⟩
  · refine wa_dload_n (pc := 93) (y := mJ23_floorOrCeil) dJ23_floorOrCeil_93 rfl ?_
    exact wa_dreturn (pc := 94) (y := mJ23_floorOrCeil) dJ23_floorOrCeil_94 rfl ⟨by unfold ceX mskX; rw [if_pos hb90], rfl⟩
theorem s_J23_ceil (hd : 3 ≤ d) (hG : StG G) (hs : 1 ≤ s ∧ s < 97) : MA G d mJ23_ceil [.double (qX s)] h0 (fun r h' => r = .inl (some (.double (ceX s))) ∧ h' = h0) := by
  change WA G d mJ23_ceil 0 [.double (qX s), .retAddr 0] [] _ _
  refine wa_dload_n (pc := 0) (y := mJ23_ceil) dJ23_ceil_0 rfl ?_
  refine wa_ldc2d (pc := 1) (y := mJ23_ceil) dJ23_ceil_1 q1251 ?_
  refine wa_dconst1 (pc := 4) (y := mJ23_ceil) dJ23_ceil_4 ?_
  refine wa_dconst1 (pc := 5) (y := mJ23_ceil) dJ23_ceil_5 ?_
  refine wa_callS (pc := 6) (s_J23_floorOrCeil (d := d - 1) (by omega) hG hs _) dJ23_ceil_6 okJ23_floorOrCeil q1252 q1253 rfl rfl (Nat.le_of_ble_eq_true rfl) (Nat.le_of_ble_eq_true rfl) (by omega) ?_
  rintro _ _ - - ⟨rfl, rfl⟩
  refine aft_v (pc2 := 9) ?_ rfl
  exact wa_dreturn (pc := 9) (y := mJ23_ceil) dJ23_ceil_9 rfl ⟨rfl, rfl⟩
end CEIL2
