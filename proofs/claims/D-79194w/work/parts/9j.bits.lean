/-! ===== Integer.bitCount of twelve bits ===== -/
def bcS (x : Int32) (k : Nat) : Int32 := (x.toUInt32 >>> ((Int32.ofNat k).toUInt32 &&& Int32.toUInt32 31)).toInt32
def bc1 (x : Int32) : Int32 := x - (bcS x 1 &&& 1431655765)
def bc2 (x : Int32) : Int32 := (x &&& 858993459) + (bcS x 2 &&& 858993459)
def bc3 (x : Int32) : Int32 := (x + bcS x 4) &&& 252645135
def bc4 (x : Int32) : Int32 := x + bcS x 8
def bc5 (x : Int32) : Int32 := (x + bcS x 16) &&& Int32.ofNat 63
def bcI (x : Int32) : Int32 := bc5 (bc4 (bc3 (bc2 (bc1 x))))
section BITS
variable {G : GG} {d : Nat} {h : AH}
theorem s_J20_bitCount {x : Int32} : MA G d mJ20_bitCount [.int x] h (fun r h' => r = .inl (some (.int (bcI x))) ∧ h' = h) := by
  change WA _ _ _ 0 [.int x] [] _ _
  unfold bcI
  refine wa_iload_n (pc := 0) (y := mJ20_bitCount) dJ20_bitCount_0 rfl ?_
  refine wa_iload_n (pc := 1) (y := mJ20_bitCount) dJ20_bitCount_1 rfl ?_
  refine wa_iconst (pc := 2) (y := mJ20_bitCount) (Int32.ofNat 1) dJ20_bitCount_2 rfl ?_
  refine wa_iushr (pc := 3) (y := mJ20_bitCount) dJ20_bitCount_3 ?_
  refine wa_ldcw (pc := 4) (y := mJ20_bitCount) dJ20_bitCount_4 q2063 ?_
  refine wa_iand (pc := 7) (y := mJ20_bitCount) dJ20_bitCount_7 ?_
  refine wa_isub (pc := 8) (y := mJ20_bitCount) dJ20_bitCount_8 ?_
  refine wa_istore_n (pc := 9) (y := mJ20_bitCount) dJ20_bitCount_9 (Nat.le_of_ble_eq_true rfl) rfl ?_
  change WA _ _ _ _ (List.set _ 0 _) _ _ _
  simp only [List.set_cons_zero, List.set_cons_succ]
  refine wa_iload_n (pc := 10) (y := mJ20_bitCount) dJ20_bitCount_10 rfl ?_
  refine wa_ldcw (pc := 11) (y := mJ20_bitCount) dJ20_bitCount_11 q2064 ?_
  refine wa_iand (pc := 14) (y := mJ20_bitCount) dJ20_bitCount_14 ?_
  refine wa_iload_n (pc := 15) (y := mJ20_bitCount) dJ20_bitCount_15 rfl ?_
  refine wa_iconst (pc := 16) (y := mJ20_bitCount) (Int32.ofNat 2) dJ20_bitCount_16 rfl ?_
  refine wa_iushr (pc := 17) (y := mJ20_bitCount) dJ20_bitCount_17 ?_
  refine wa_ldcw (pc := 18) (y := mJ20_bitCount) dJ20_bitCount_18 q2064 ?_
  refine wa_iand (pc := 21) (y := mJ20_bitCount) dJ20_bitCount_21 ?_
  first | with_reducible refine wa_iaddN (pc := 22) (y := mJ20_bitCount) dJ20_bitCount_22 ?_ | refine wa_iadd (pc := 22) (y := mJ20_bitCount) dJ20_bitCount_22 ?_
  refine wa_istore_n (pc := 23) (y := mJ20_bitCount) dJ20_bitCount_23 (Nat.le_of_ble_eq_true rfl) rfl ?_
  change WA _ _ _ _ (List.set _ 0 _) _ _ _
  simp only [List.set_cons_zero, List.set_cons_succ]
  refine wa_iload_n (pc := 24) (y := mJ20_bitCount) dJ20_bitCount_24 rfl ?_
  refine wa_iload_n (pc := 25) (y := mJ20_bitCount) dJ20_bitCount_25 rfl ?_
  refine wa_iconst (pc := 26) (y := mJ20_bitCount) (Int32.ofNat 4) dJ20_bitCount_26 rfl ?_
  refine wa_iushr (pc := 27) (y := mJ20_bitCount) dJ20_bitCount_27 ?_
  first | with_reducible refine wa_iaddN (pc := 28) (y := mJ20_bitCount) dJ20_bitCount_28 ?_ | refine wa_iadd (pc := 28) (y := mJ20_bitCount) dJ20_bitCount_28 ?_
  refine wa_ldcw (pc := 29) (y := mJ20_bitCount) dJ20_bitCount_29 q2065 ?_
  refine wa_iand (pc := 32) (y := mJ20_bitCount) dJ20_bitCount_32 ?_
  refine wa_istore_n (pc := 33) (y := mJ20_bitCount) dJ20_bitCount_33 (Nat.le_of_ble_eq_true rfl) rfl ?_
  change WA _ _ _ _ (List.set _ 0 _) _ _ _
  simp only [List.set_cons_zero, List.set_cons_succ]
  refine wa_iload_n (pc := 34) (y := mJ20_bitCount) dJ20_bitCount_34 rfl ?_
  refine wa_iload_n (pc := 35) (y := mJ20_bitCount) dJ20_bitCount_35 rfl ?_
  refine wa_bipush (pc := 36) (y := mJ20_bitCount) (Int32.ofNat 8) dJ20_bitCount_36 rfl ?_
  refine wa_iushr (pc := 38) (y := mJ20_bitCount) dJ20_bitCount_38 ?_
  first | with_reducible refine wa_iaddN (pc := 39) (y := mJ20_bitCount) dJ20_bitCount_39 ?_ | refine wa_iadd (pc := 39) (y := mJ20_bitCount) dJ20_bitCount_39 ?_
  refine wa_istore_n (pc := 40) (y := mJ20_bitCount) dJ20_bitCount_40 (Nat.le_of_ble_eq_true rfl) rfl ?_
  change WA _ _ _ _ (List.set _ 0 _) _ _ _
  simp only [List.set_cons_zero, List.set_cons_succ]
  refine wa_iload_n (pc := 41) (y := mJ20_bitCount) dJ20_bitCount_41 rfl ?_
  refine wa_iload_n (pc := 42) (y := mJ20_bitCount) dJ20_bitCount_42 rfl ?_
  refine wa_bipush (pc := 43) (y := mJ20_bitCount) (Int32.ofNat 16) dJ20_bitCount_43 rfl ?_
  refine wa_iushr (pc := 45) (y := mJ20_bitCount) dJ20_bitCount_45 ?_
  first | with_reducible refine wa_iaddN (pc := 46) (y := mJ20_bitCount) dJ20_bitCount_46 ?_ | refine wa_iadd (pc := 46) (y := mJ20_bitCount) dJ20_bitCount_46 ?_
  refine wa_istore_n (pc := 47) (y := mJ20_bitCount) dJ20_bitCount_47 (Nat.le_of_ble_eq_true rfl) rfl ?_
  change WA _ _ _ _ (List.set _ 0 _) _ _ _
  simp only [List.set_cons_zero, List.set_cons_succ]
  refine wa_iload_n (pc := 48) (y := mJ20_bitCount) dJ20_bitCount_48 rfl ?_
  refine wa_bipush (pc := 49) (y := mJ20_bitCount) (Int32.ofNat 63) dJ20_bitCount_49 rfl ?_
  refine wa_iand (pc := 51) (y := mJ20_bitCount) dJ20_bitCount_51 ?_
  exact wa_ireturn (pc := 52) (y := mJ20_bitCount) .int dJ20_bitCount_52 rfl rfl ⟨rfl, rfl⟩
end BITS
theorem bc_bits : ∀ b0 b1 b2 b3 b4 b5 b6 b7 b8 b9 b10 b11 : Bool, bcI (((((((((((((0 : Int32) ||| (if b0 then bit 0 else 0)) ||| (if b1 then bit 1 else 0)) ||| (if b2 then bit 2 else 0)) ||| (if b3 then bit 3 else 0)) ||| (if b4 then bit 4 else 0)) ||| (if b5 then bit 5 else 0)) ||| (if b6 then bit 6 else 0)) ||| (if b7 then bit 7 else 0)) ||| (if b8 then bit 8 else 0)) ||| (if b9 then bit 9 else 0)) ||| (if b10 then bit 10 else 0)) ||| (if b11 then bit 11 else 0)) = (((((((((((((0 : Int32) + bI b0) + bI b1) + bI b2) + bI b3) + bI b4) + bI b5) + bI b6) + bI b7) + bI b8) + bI b9) + bI b10) + bI b11) := by decide +kernel
theorem bc_all (g : Nat → Bool) : bcI (orN g 12) = smN (fun c => bI (g c)) 12 := bc_bits (g 0) (g 1) (g 2) (g 3) (g 4) (g 5) (g 6) (g 7) (g 8) (g 9) (g 10) (g 11)
