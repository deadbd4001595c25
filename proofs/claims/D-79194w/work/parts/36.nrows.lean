/-! ===== small numbers: rows over Int32.ofNat ===== -/
/-- an Int32 as a number, unsigned -/
def u (x : Int32) : Nat := x.toBitVec.toNat
theorem u_self (x : Int32) : Int32.ofNat (u x) = x := by
  apply Int32.toBitVec_inj.mp
  show BitVec.ofNat 32 x.toBitVec.toNat = x.toBitVec
  simp
theorem u_of {n : Nat} (h : n < 4294967296) : u (Int32.ofNat n) = n := by
  show (BitVec.ofNat 32 n).toNat = n
  simp
  omega
theorem iN_toInt {n : Nat} (h : n < 2147483648) : (Int32.ofNat n).toInt = (n : Int) := Int32.toInt_ofNat_of_lt h
theorem iN_add (a b : Nat) : Int32.ofNat a + Int32.ofNat b = Int32.ofNat (a + b) := (Int32.ofNat_add a b).symm
theorem iN_mul (a b : Nat) : Int32.ofNat a * Int32.ofNat b = Int32.ofNat (a * b) := (Int32.ofNat_mul a b).symm
theorem iN_sub {a b : Nat} (h : b ≤ a) : Int32.ofNat a - Int32.ofNat b = Int32.ofNat (a - b) := by
  have := iN_add (a - b) b
  rw [Nat.sub_add_cancel h] at this
  rw [← this, Int32.add_sub_cancel]
theorem iN_lt {a b : Nat} (ha : a < 2147483648) (hb : b < 2147483648) : Int32.ofNat a < Int32.ofNat b ↔ a < b := by
  rw [Int32.lt_iff_toInt_lt, iN_toInt ha, iN_toInt hb]
  omega
theorem iN_le {a b : Nat} (ha : a < 2147483648) (hb : b < 2147483648) : Int32.ofNat a ≤ Int32.ofNat b ↔ a ≤ b := by
  rw [Int32.le_iff_toInt_le, iN_toInt ha, iN_toInt hb]
  omega
theorem iN_eq {a b : Nat} (ha : a < 4294967296) (hb : b < 4294967296) : Int32.ofNat a = Int32.ofNat b ↔ a = b :=
  ⟨fun h => by rw [← u_of ha, h, u_of hb], fun h => by rw [h]⟩
def bI (b : Bool) : Int32 := if b then 1 else 0
theorem bI_0 {b : Bool} : bI b = 0 ↔ b = false := by cases b <;> decide
theorem bI_n0 {b : Bool} : ¬ bI b = 0 → b = true := by cases b <;> decide
theorem bI_1 {b : Bool} : bI b = 1 ↔ b = true := by cases b <;> decide
theorem bI_nar (b : Bool) : narrow .boolean (.int (bI b)) = .int (bI b) := by cases b <;> rfl
theorem bI_fit (b : Bool) : fits .boolean (.int (bI b)) = true := by cases b <;> rfl
section NROWS
variable {G : GG} {d : Nat} {y : MD} {pc : Nat} {ls st : List Value} {h : AH} {Q : RR → AH → Prop}
theorem wa_iaddN {a b : Nat} (hd : decode y.2.1 pc = .ok (.iadd, 1)) (k : WA G d y (pc + 1) ls (.int (Int32.ofNat (a + b)) :: st) h Q) : WA G d y pc ls (.int (Int32.ofNat b) :: .int (Int32.ofNat a) :: st) h Q := wa_iadd hd (by rw [iN_add]; exact k)
theorem wa_imulN {a b : Nat} (hd : decode y.2.1 pc = .ok (.imul, 1)) (k : WA G d y (pc + 1) ls (.int (Int32.ofNat (a * b)) :: st) h Q) : WA G d y pc ls (.int (Int32.ofNat b) :: .int (Int32.ofNat a) :: st) h Q := wa_imul hd (by rw [iN_mul]; exact k)
theorem wa_isubN {a b : Nat} (hd : decode y.2.1 pc = .ok (.isub, 1)) (hba : b ≤ a) (k : WA G d y (pc + 1) ls (.int (Int32.ofNat (a - b)) :: st) h Q) : WA G d y pc ls (.int (Int32.ofNat b) :: .int (Int32.ofNat a) :: st) h Q := wa_isub hd (by rw [iN_sub hba]; exact k)
theorem wa_iincN {i a : Nat} (hd : decode y.2.1 pc = .ok (.iinc i 1, 3)) (hl : ls[i]? = some (.int (Int32.ofNat a))) (hn : i < y.2.2.1) (ho : okst ls i = true) (k : WA G d y (pc + 3) (ls.set i (.int (Int32.ofNat (a + 1)))) st h Q) : WA G d y pc ls st h Q := wa_iinc 1 hd rfl hl hn ho (by rw [show (1 : Int32) = Int32.ofNat 1 from rfl, iN_add]; exact k)
def arI (n : Nat) (f : Nat → Int32) : List Value := (List.range n).map fun i => .int (f i)
theorem arI_get {n j : Nat} (f : Nat → Int32) (h : j < n) : (arI n f)[j]? = some (.int (f j)) := by simp [arI, h]
theorem arI_len (n : Nat) (f : Nat → Int32) : (arI n f).length = n := by simp [arI]
theorem arI_set (n j : Nat) (f : Nat → Int32) (v : Int32) : (arI n f).set j (.int v) = arI n (upd f j v) := by
  apply List.ext_getElem?
  intro i
  by_cases e : j = i
  · subst e
    by_cases hl : j < n
    · rw [arI_get _ hl, List.getElem?_set_self (by rw [arI_len]; exact hl)]
      simp [upd]
    · rw [List.getElem?_eq_none (by simp [arI]; omega), List.getElem?_eq_none (by simp [arI]; omega)]
  · rw [List.getElem?_set_ne e]
    by_cases hl : i < n
    · rw [arI_get _ hl, arI_get _ hl]
      simp [upd, Ne.symm e]
    · rw [List.getElem?_eq_none (by simp [arI]; omega), List.getElem?_eq_none (by simp [arI]; omega)]
/-- what arraycopy leaves of g -/
def cpF (f g : Nat → Int32) (sp dp n : Nat) : Nat → Int32 := fun j => if dp ≤ j ∧ j < dp + n then f (sp + (j - dp)) else g j
theorem cpL_arI {n m sp dp c : Nat} (f g : Nat → Int32) (h : sp + c ≤ n) : cpL (arI n f) (arI m g) sp dp c = arI m (cpF f g sp dp c) := by
  unfold cpL
  rw [arI_len]
  unfold arI
  apply List.map_congr_left
  intro j hj
  have hj := List.mem_range.mp hj
  unfold cpF
  by_cases e : dp ≤ j ∧ j < dp + c
  · rw [if_pos e, if_pos e]
    simp [List.getD_eq_getElem?_getD, show sp + (j - dp) < n by omega]
  · rw [if_neg e, if_neg e]
    simp [List.getD_eq_getElem?_getD, hj]
theorem wa_ialoadN {a j n : Nat} {f : Nat → Int32} (hd : decode y.2.1 pc = .ok (.iaload, 1)) (hc : h.2.2 a = some (32, arI n f)) (hj : j < n ∧ n < 2147483648) (kk : WA G d y (pc + 1) ls (.int (f j) :: st) h Q) : WA G d y pc ls (.int (Int32.ofNat j) :: .ref a :: st) h Q :=
  wa_iaload j hd hc (iN_toInt (by omega)) (arI_get f hj.1) kk
theorem wa_ialoadU {a j n : Nat} {f : Nat → Int32} (hd : decode y.2.1 pc = .ok (.iaload, 1)) (hc : h.2.2 a = some (32, arI n f)) (hj : j < n ∧ n < 2147483648) (kk : WA G d y (pc + 1) ls (.int (Int32.ofNat (u (f j))) :: st) h Q) : WA G d y pc ls (.int (Int32.ofNat j) :: .ref a :: st) h Q :=
  wa_ialoadN hd hc hj (by rw [u_self] at kk; exact kk)
theorem wa_iastoreN {a j n : Nat} {f : Nat → Int32} {z : Int32} (hd : decode y.2.1 pc = .ok (.iastore, 1)) (hc : h.2.2 a = some (32, arI n f)) (hj : j < n ∧ n < 2147483648) (kk : WA G d y (pc + 1) ls st (ah_upd h a (32, arI n (upd f j z))) Q) : WA G d y pc ls (.int z :: .int (Int32.ofNat j) :: .ref a :: st) h Q :=
  wa_iastore j hd hc (iN_toInt (by omega)) (by rw [arI_len]; exact hj.1) (by rw [arI_set]; exact kk)
theorem aft_v {n pc2 : Nat} {v : Value} (k : WA G d y pc2 ls (v :: st) h Q) (e : pc + n = pc2) : AFT G d y pc n ls st Q (.inl (some v)) h := by
  subst e
  exact k
theorem aft_0 {n pc2 : Nat} (k : WA G d y pc2 ls st h Q) (e : pc + n = pc2) : AFT G d y pc n ls st Q (.inl none) h := by
  subst e
  exact k
theorem wa_copyN {a b n m sp dp c idx : Nat} {f g : Nat → Int32} (hd : decode y.2.1 pc = .ok (.invokestatic idx, 3)) (hl : Cond.methodLink y.1.cls idx arraycopyName ∈ lw_all) (hnat : Cond.native arraycopyName ∈ lw_all) (hstat : Cond.static arraycopyName ∈ lw_all) (hini : Cond.initialized "java/lang/System" ∈ lw_all)
    (ha : h.2.2 a = some (32, arI n f)) (hb : h.2.2 b = some (32, arI m g)) (hs : sp + c ≤ n ∧ dp + c ≤ m ∧ n < 2147483648 ∧ m < 2147483648) (hcat : (st.map fun v => v.category).sum ≤ 8) (hd2 : 0 < d)
    (kk : WA G d y (pc + 3) ls st (ah_upd h b (32, arI m (cpF f g sp dp c))) Q) : WA G d y pc ls (.int (Int32.ofNat c) :: .int (Int32.ofNat dp) :: .ref b :: .int (Int32.ofNat sp) :: .ref a :: st) h Q :=
  wa_copy sp dp c hd hl hnat hstat hini ha hb (Or.inl rfl) (iN_toInt (by omega)) (iN_toInt (by omega)) (iN_toInt (by omega)) (by rw [arI_len]; exact hs.1) (by rw [arI_len]; exact hs.2.1) (fun i hi v hv => Or.inl ⟨rfl, f (sp + i), by rw [arI_get f (by omega)] at hv; exact (Option.some.inj hv).symm⟩) hcat hd2 (by rw [cpL_arI f g hs.1]; exact kk)
end NROWS
/-- what an Option of a place is as an int -/
def oI (o : Option Nat) : Int32 := match o with
  | some k => Int32.ofNat k
  | none => -1
theorem oI_some (k : Nat) : oI (some k) = Int32.ofNat k := rfl
theorem oI_none : oI none = -1 := rfl
