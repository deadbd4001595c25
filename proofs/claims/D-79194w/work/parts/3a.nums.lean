/-! ===== more of small numbers ===== -/
theorem iN_and (a b : Nat) : Int32.ofNat a &&& Int32.ofNat b = Int32.ofNat (a &&& b) := by
  apply Int32.toBitVec_inj.mp
  show BitVec.ofNat 32 a &&& BitVec.ofNat 32 b = BitVec.ofNat 32 (a &&& b)
  apply BitVec.eq_of_toNat_eq
  simp [Nat.and_mod_two_pow]
theorem iN_or (a b : Nat) : Int32.ofNat a ||| Int32.ofNat b = Int32.ofNat (a ||| b) := by
  apply Int32.toBitVec_inj.mp
  show BitVec.ofNat 32 a ||| BitVec.ofNat 32 b = BitVec.ofNat 32 (a ||| b)
  apply BitVec.eq_of_toNat_eq
  simp [Nat.or_mod_two_pow]
theorem iN_xor (a b : Nat) : Int32.ofNat a ^^^ Int32.ofNat b = Int32.ofNat (a ^^^ b) := by
  apply Int32.toBitVec_inj.mp
  show BitVec.ofNat 32 a ^^^ BitVec.ofNat 32 b = BitVec.ofNat 32 (a ^^^ b)
  apply BitVec.eq_of_toNat_eq
  simp [Nat.xor_mod_two_pow]
theorem iN_bv (n : Nat) : (Int32.ofNat n).toBitVec = BitVec.ofNat 32 n := rfl
theorem iN_31 {k : Nat} (h : k < 32) : (Int32.ofNat k).toBitVec.smod 32 = BitVec.ofNat 32 k := by
  match k, h with
  | 0, _ | 1, _ | 2, _ | 3, _ | 4, _ | 5, _ | 6, _ | 7, _ | 8, _ | 9, _ | 10, _ | 11, _ | 12, _ | 13, _ | 14, _ | 15, _ | 16, _ | 17, _ | 18, _ | 19, _ | 20, _ | 21, _ | 22, _ | 23, _ | 24, _ | 25, _ | 26, _ | 27, _ | 28, _ | 29, _ | 30, _ | 31, _ => rfl
  | k + 32, h => omega
theorem iN_m31 {k : Nat} (h : k < 32) : Int32.ofNat k &&& 31 = Int32.ofNat k := by
  have := iN_and k 31
  rw [show (31 : Int32) = Int32.ofNat 31 from rfl, this, show k &&& 31 = k from by
    have := Nat.and_two_pow_sub_one_eq_mod k 5
    rw [show (31 : Nat) = 2 ^ 5 - 1 from rfl, this]
    omega]
theorem iN_shr {n k : Nat} (h : n < 2147483648) (hk : k < 32) : Int32.ofNat n >>> (Int32.ofNat k &&& 31) = Int32.ofNat (n / 2 ^ k) := by
  rw [iN_m31 hk]
  apply Int32.toBitVec_inj.mp
  show (BitVec.ofNat 32 n).sshiftRight' ((Int32.ofNat k).toBitVec.smod 32) = BitVec.ofNat 32 (n / 2 ^ k)
  rw [iN_31 hk]
  show (BitVec.ofNat 32 n).sshiftRight (BitVec.ofNat 32 k).toNat = _
  have hm : (BitVec.ofNat 32 n).msb = false := by
    rw [BitVec.msb_eq_decide]
    simp
    omega
  rw [BitVec.sshiftRight_eq_of_msb_false hm]
  apply BitVec.eq_of_toNat_eq
  have hdiv : n / 2 ^ k ≤ n := Nat.div_le_self _ _
  simp [Nat.shiftRight_eq_div_pow]
  rw [Nat.mod_eq_of_lt (by omega : k < 4294967296), Nat.mod_eq_of_lt (by omega : n < 4294967296), Nat.mod_eq_of_lt (by omega)]
theorem iN_shl {n k : Nat} (hk : k < 32) : Int32.ofNat n <<< (Int32.ofNat k &&& 31) = Int32.ofNat (n * 2 ^ k) := by
  rw [iN_m31 hk]
  apply Int32.toBitVec_inj.mp
  show (BitVec.ofNat 32 n) <<< ((Int32.ofNat k).toBitVec.smod 32) = BitVec.ofNat 32 (n * 2 ^ k)
  rw [iN_31 hk]
  apply BitVec.eq_of_toNat_eq
  rw [BitVec.shiftLeft_eq', BitVec.toNat_shiftLeft, BitVec.toNat_ofNat, BitVec.toNat_ofNat, BitVec.toNat_ofNat, Nat.mod_eq_of_lt (show k < 2 ^ 32 by omega), Nat.shiftLeft_eq]
  simp [Nat.mod_mul_mod]
theorem iN_ushr {n k : Nat} (h : n < 4294967296) (hk : k < 32) : ((Int32.ofNat n).toUInt32 >>> ((Int32.ofNat k).toUInt32 &&& Int32.toUInt32 31)).toInt32 = Int32.ofNat (n / 2 ^ k) := by
  have e : (Int32.ofNat k).toUInt32 &&& Int32.toUInt32 31 = (Int32.ofNat k).toUInt32 := by
    have := iN_m31 hk
    have h2 : (Int32.ofNat k &&& 31).toUInt32 = (Int32.ofNat k).toUInt32 := by rw [this]
    exact h2
  rw [e]
  apply Int32.toBitVec_inj.mp
  apply BitVec.eq_of_toNat_eq
  show ((Int32.ofNat n).toUInt32 >>> (Int32.ofNat k).toUInt32).toNat = (BitVec.ofNat 32 (n / 2 ^ k)).toNat
  rw [UInt32.toNat_shiftRight]
  show (BitVec.ofNat 32 n).toNat >>> ((BitVec.ofNat 32 k).toNat % 32) = _
  have hdiv : n / 2 ^ k ≤ n := Nat.div_le_self _ _
  rw [BitVec.toNat_ofNat, BitVec.toNat_ofNat, BitVec.toNat_ofNat, Nat.mod_eq_of_lt (show n < 2 ^ 32 by omega), Nat.mod_eq_of_lt (show k < 2 ^ 32 by omega), Nat.mod_eq_of_lt hk, Nat.shiftRight_eq_div_pow, Nat.mod_eq_of_lt (by omega)]
theorem iN_min {a b : Nat} (ha : a < 2147483648) (hb : b < 2147483648) : (if Int32.ofNat b < Int32.ofNat a then Int32.ofNat b else Int32.ofNat a) = Int32.ofNat (min a b) := by
  by_cases h : b < a
  · rw [if_pos ((iN_lt hb ha).mpr h), Nat.min_eq_right (by omega)]
  · rw [if_neg (fun q => h ((iN_lt hb ha).mp q)), Nat.min_eq_left (by omega)]
theorem iN_max {a b : Nat} (ha : a < 2147483648) (hb : b < 2147483648) : (if Int32.ofNat a < Int32.ofNat b then Int32.ofNat b else Int32.ofNat a) = Int32.ofNat (max a b) := by
  by_cases h : a < b
  · rw [if_pos ((iN_lt ha hb).mpr h), Nat.max_eq_right (by omega)]
  · rw [if_neg (fun q => h ((iN_lt ha hb).mp q)), Nat.max_eq_left (by omega)]
theorem iN_gt0 {a : Nat} (ha : a < 2147483648) : 0 < Int32.ofNat a ↔ 0 < a := iN_lt (a := 0) (by omega) ha
theorem iN_nlt0 {a : Nat} (ha : a < 2147483648) : ¬ Int32.ofNat a < 0 := fun h => absurd ((iN_lt (b := 0) ha (by omega)).mp h) (by omega)
theorem iN_ge0 {a : Nat} (ha : a < 2147483648) : 0 ≤ Int32.ofNat a := (iN_le (a := 0) (by omega) ha).mpr (by omega)
theorem iN_le0 {a : Nat} (ha : a < 2147483648) : Int32.ofNat a ≤ 0 ↔ a = 0 := (iN_le (b := 0) ha (by omega)).trans (by omega)
theorem iN_eq0 {a : Nat} (ha : a < 4294967296) : Int32.ofNat a = 0 ↔ a = 0 := iN_eq (b := 0) ha (by omega)
