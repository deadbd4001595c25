/-! ===== the mean level: never NaN; CueStackModel.meanLevel ===== -/
section FPN
/-- a number that its format can hold, or an infinity -/
def wfD (d : FP.Core.Datum) : Prop := d ≠ .nan ∧ ∀ s c q, d = .fin s c q → c < 9007199254740992 ∧ -1074 ≤ q ∧ q ≤ 971
theorem wfD_inf (s : Bool) : wfD (.inf s) := ⟨fun h => FP.Core.Datum.noConfusion h, fun _ _ _ h => FP.Core.Datum.noConfusion h⟩
theorem wfD_fin {s : Bool} {c : Nat} {q : Int} (h : c < 9007199254740992 ∧ -1074 ≤ q ∧ q ≤ 971) : wfD (.fin s c q) := ⟨fun h => FP.Core.Datum.noConfusion h, fun _ _ _ e => by cases e; exact h⟩
theorem wfD_bound {s : Bool} {c : Nat} {q : Int} (h : c < 9007199254740992) (h2 : -1074 ≤ q) : wfD (FP.Core.bound FP.Core.b64 s c q) := by
  unfold FP.Core.bound
  split
  · rename_i x
    exact wfD_fin ⟨h, h2, by rw [show FP.Core.b64.qmax = 971 from by decide] at x; exact x⟩
  · exact wfD_inf s
theorem wfD_rr (s : Bool) (a b : Nat) (e : Int) : wfD (FP.Core.roundRatio FP.Core.b64 s a b e) := by
  unfold FP.Core.roundRatio
  split
  · exact wfD_fin (by decide)
  · unfold FP.Core.roundAt FP.Core.settle
    have hq : -1074 ≤ FP.Core.quantum FP.Core.b64 a b e := by
      unfold FP.Core.quantum
      rw [show FP.Core.b64.qmin = -1074 from by decide]
      omega
    split
    · rename_i x
      exact wfD_bound (by rw [show 2 ^ FP.Core.b64.p = 9007199254740992 from by decide] at x; exact x) hq
    · exact wfD_bound (by decide) (by omega)
theorem enc_n {d : FP.Core.Datum} (hd : wfD d) : FP.Core.encode FP.Core.b64 d < 18446744073709551616 ∧ FP.Core.encode FP.Core.b64 d % 9223372036854775808 ≤ 9218868437227405312 := by
  have ht : FP.Core.b64.tails = 4503599627370496 := by decide
  have he : FP.Core.b64.exps = 2048 := by decide
  have h1 : FP.Core.b64.qmin = -1074 := by decide
  cases d with
  | nan => exact absurd rfl hd.1
  | inf s =>
    unfold FP.Core.encode FP.Core.assemble
    rw [ht, he]
    cases s <;> decide
  | fin s c q =>
    obtain ⟨a, b, c9⟩ := hd.2 s c q rfl
    rw [show FP.Core.encode FP.Core.b64 (.fin s c q) = if c < FP.Core.b64.tails then FP.Core.assemble FP.Core.b64 s 0 c else FP.Core.assemble FP.Core.b64 s ((q - FP.Core.b64.qmin).toNat + 1) (c - FP.Core.b64.tails) from rfl, ht, h1]
    unfold FP.Core.assemble
    rw [ht, he]
    by_cases x : c < 4503599627370496
    · rw [if_pos x]
      cases s <;> simp only [Bool.toNat_false, Bool.toNat_true] <;> omega
    · rw [if_neg x]
      cases s <;> simp only [Bool.toNat_false, Bool.toNat_true] <;> omega
theorem n64_of {d : FP.Core.Datum} (hd : wfD d) : vf_n64 (UInt64.ofNat (FP.Core.encode FP.Core.b64 d)) := by
  obtain ⟨h1, h2⟩ := enc_n hd
  unfold vf_n64
  rw [UInt64.le_iff_toNat_le, UInt64.toNat_and]
  have e1 : (UInt64.ofNat (FP.Core.encode FP.Core.b64 d)).toNat = FP.Core.encode FP.Core.b64 d := by
    rw [UInt64.toNat_ofNat']
    exact Nat.mod_eq_of_lt h1
  rw [e1, show (0x7fffffffffffffff : UInt64).toNat = 2 ^ 63 - 1 from by decide, Nat.and_two_pow_sub_one_eq_mod, show (0x7ff0000000000000 : UInt64).toNat = 9218868437227405312 from by decide]
  exact h2
theorem dec_nn {n : Nat} (h : n % 9223372036854775808 ≤ 9218868437227405312) : FP.Core.decode FP.Core.b64 n ≠ .nan := by
  have ht : FP.Core.b64.tails = 4503599627370496 := by decide
  have he : FP.Core.b64.exps = 2048 := by decide
  unfold FP.Core.decode FP.Core.fieldE FP.Core.fieldT
  rw [ht, he]
  by_cases x : n / 4503599627370496 % 2048 = 2047
  · rw [if_pos x, if_pos (by omega)]
    exact (wfD_inf _).1
  · rw [if_neg x]
    split
    · intro q; cases q
    · intro q; cases q
theorem mean_nn (x : Int32) : vf_n64 (FP.ddiv (FP.i2d x) 4622945017495814144) := by
  have e2 : FP.Core.decode FP.Core.b64 (4622945017495814144 : UInt64).toNat = .fin false 6755399441055744 (-49) := by decide +kernel
  have hw : wfD (FP.Core.round FP.Core.b64 (FP.Core.ofInt x.toInt)) := by
    unfold FP.Core.ofInt
    exact wfD_rr _ _ _ _
  have hnn : FP.Core.decode FP.Core.b64 (FP.i2d x).toNat ≠ .nan := by
    obtain ⟨h1, h2⟩ := enc_n hw
    show FP.Core.decode FP.Core.b64 (UInt64.ofNat (FP.Core.encode FP.Core.b64 (FP.Core.round FP.Core.b64 (FP.Core.ofInt x.toInt)))).toNat ≠ .nan
    rw [UInt64.toNat_ofNat', Nat.mod_eq_of_lt h1]
    exact dec_nn h2
  show vf_n64 (UInt64.ofNat (FP.Core.encode FP.Core.b64 (FP.Core.quotient FP.Core.b64 (FP.Core.decode FP.Core.b64 (FP.i2d x).toNat) (FP.Core.decode FP.Core.b64 (4622945017495814144 : UInt64).toNat))))
  rw [e2]
  refine n64_of ?_
  cases hd : FP.Core.decode FP.Core.b64 (FP.i2d x).toNat with
  | nan => exact absurd hd hnn
  | inf s => exact wfD_inf _
  | fin s c q =>
    show wfD (if (6755399441055744 : Nat) = 0 then (if c = 0 then .nan else .inf (s != false)) else FP.Core.roundRatio FP.Core.b64 (s != false) c 6755399441055744 (q - -49))
    rw [if_neg (by decide)]
    exact wfD_rr _ _ _ _
end FPN
def O_mean (f : Nat → Int32) : UInt64 := FP.ddiv (FP.i2d (smN (ovcG f 2) 12)) 4622945017495814144
section MMEAN
variable {G : GG} {d : Nat} {h : AH} {m : Nat} {f : Nat → Int32} {σ : MS}
theorem s_X6_meanLevel (hd : 3 ≤ d) : MA G d mX6_meanLevel [.ref m] (mH h m f σ) (fun r h' => r = .inl (some (.double (O_mean f))) ∧ h' = mH h m f (mV σ 7 (Int32.ofNat 0))) := by
  show WA _ _ _ 0 [.ref m] [] _ _
  first | refine wa_aload_n (pc := 0) (y := mX6_meanLevel) dX6_meanLevel_0 rfl ?_ | refine wa_aload_nN (pc := 0) (y := mX6_meanLevel) dX6_meanLevel_0 rfl ?_ | refine wa_aload_nq (pc := 0) (y := mX6_meanLevel) dX6_meanLevel_0 rfl ?_
  refine wa_iconst (pc := 1) (y := mX6_meanLevel) (Int32.ofNat 0) dX6_meanLevel_1 rfl ?_
  refine wa_putf (pc := 2) (y := mX6_meanLevel) (k := 5) 7 .int dX6_meanLevel_2 mH_o rfl q2650 (Or.inl rfl) (Nat.le_of_ble_eq_true rfl) rfl (by decide +kernel) rfl rfl ?_
  rw [mW_o7]
  first | refine wa_aload_n (pc := 5) (y := mX6_meanLevel) dX6_meanLevel_5 rfl ?_ | refine wa_aload_nN (pc := 5) (y := mX6_meanLevel) dX6_meanLevel_5 rfl ?_ | refine wa_aload_nq (pc := 5) (y := mX6_meanLevel) dX6_meanLevel_5 rfl ?_
  refine wa_iconst (pc := 6) (y := mX6_meanLevel) (Int32.ofNat 2) dX6_meanLevel_6 rfl ?_
  refine wa_callV (pc := 7) (s_X6_overChannels (d := d - 1) (by omega)) dX6_meanLevel_7 okX6_overChannels q2978 q2980 qs74 mH_o rfl rfl rfl (Nat.le_of_ble_eq_true rfl) (Nat.le_of_ble_eq_true rfl) (by omega) ?_
  rintro _ _ - - ⟨rfl, rfl⟩
  refine aft_v (pc2 := 10) ?_ rfl
  refine wa_i2d (pc := 10) (y := mX6_meanLevel) dX6_meanLevel_10 ?_
  refine wa_ldc2d (pc := 11) (y := mX6_meanLevel) dX6_meanLevel_11 q2990 ?_
  refine wa_ddiv (pc := 14) (y := mX6_meanLevel) dX6_meanLevel_14 (mean_nn _) ?_
  exact wa_dreturn (pc := 15) (y := mX6_meanLevel) dX6_meanLevel_15 rfl ⟨rfl, rfl⟩
end MMEAN
