/-! ===== CueStackModel: texts, third part ===== -/
def reK (inp : Nat → Int32) (L p : Nat) : Int32 := if p < L then inp p else 32
def reA (inp : Nat → Int32) (L p : Nat) (k : Int32) (E : Nat) (N : Nat → Int32) : Nat × Bool × (Nat → Int32) :=
  if sgB k ∧ k ≠ 103 then ((nuT inp L (if k = 116 then 4 else 2) (p + 1) false).2.1, (nuT inp L (if k = 116 then 4 else 2) (p + 1) false).2.2, upd N (3 * E) (nuT inp L (if k = 116 then 4 else 2) (p + 1) false).1)
  else (if sgB k then p + 1 else p, !sgB k, N)
def reB (inp : Nat → Int32) (L : Nat) (k : Int32) (E : Nat) (s : Nat × Bool × (Nat → Int32)) : Nat × Bool × (Nat → Int32) :=
  if k = 115 ∨ k = 114 then ((bhT inp L 47 2 s.1 s.2.1).2.1, (bhT inp L 47 2 s.1 s.2.1).2.2, upd s.2.2 (3 * E + 1) (bhT inp L 47 2 s.1 s.2.1).1) else s
def reC (inp : Nat → Int32) (L : Nat) (k : Int32) (E : Nat) (s : Nat × Bool × (Nat → Int32)) : Nat × Bool × (Nat → Int32) :=
  if k = 115 then ((bhT inp L 64 3 s.1 s.2.1).2.1, (bhT inp L 64 3 s.1 s.2.1).2.2, upd s.2.2 (3 * E + 2) (bhT inp L 64 3 s.1 s.2.1).1) else s
def reD (inp : Nat → Int32) (L p E : Nat) (N : Nat → Int32) : Nat × Bool × (Nat → Int32) := reC inp L (reK inp L p) E (reB inp L (reK inp L p) E (reA inp L p (reK inp L p) E N))
/-- readEntry: place, wrong, numbers -/
def reF (inp : Nat → Int32) (L p E : Nat) (N : Nat → Int32) : Nat × Bool × (Nat → Int32) := ((snT inp L 59 (reD inp L p E N).1 (reD inp L p E N).2.1).1, (snT inp L 59 (reD inp L p E N).1 (reD inp L p E N).2.1).2, (reD inp L p E N).2.2)
section MTEXT3
variable {G : GG} {d : Nat} {h : AH} {m : Nat} {f : Nat → Int32} {σ : MS} {p E L : Nat} {w : Bool} {K N : Nat → Int32}
theorem s_X6_readEntry (hd : 4 ≤ d) (hG : StG G) (hL : σ.2 10 = Int32.ofNat L) (hL6 : L ≤ 60) (hp : p ≤ L) (hE : E < 60) (hin : ∀ j, j < 60 → u (σ.1 9 j) < 65536) : MA G d mX6_readEntry [.ref m] (mH h m f (TX σ p w E K N)) (fun r h' => r = .inl none ∧ h' = mH h m f (TX σ (reF (σ.1 9) L p E N).1 (reF (σ.1 9) L p E N).2.1 (E + 1) (upd K E (reK (σ.1 9) L p)) (reF (σ.1 9) L p E N).2.2)) := by
  obtain ⟨q, t, hq, hO, hc, hv, hT⟩ := str_facts hG
  have hkN : u (reK (σ.1 9) L p) < 65536 := by
    unfold reK
    split
    · exact hin p (by omega)
    · decide
  have hknar : narrow .char (.int (reK (σ.1 9) L p)) = .int (reK (σ.1 9) L p) := by
    have := nar_char hkN
    rw [u_self] at this
    exact this
  show WA _ _ _ 0 [.ref m, .retAddr 0, .retAddr 0] [] _ _
  unfold reF
  have at164 : ∀ (s : Nat × Bool × (Nat → Int32)) k K2 Q, s.1 ≤ L → Q (.inl none) (mH h m f (TX σ (snT (σ.1 9) L 59 s.1 s.2.1).1 (snT (σ.1 9) L 59 s.1 s.2.1).2 (E + 1) K2 s.2.2)) → WA G d mX6_readEntry 164 [.ref m, .int (Int32.ofNat (3 * E)), .int k] [] (mH h m f (TX σ s.1 s.2.1 E K2 s.2.2)) Q := by
    intro s k K2 Q hs hQ
    first | refine wa_aload_n (pc := 164) (y := mX6_readEntry) dX6_readEntry_164 rfl ?_ | refine wa_aload_nN (pc := 164) (y := mX6_readEntry) dX6_readEntry_164 rfl ?_ | refine wa_aload_nq (pc := 164) (y := mX6_readEntry) dX6_readEntry_164 rfl ?_
    refine wa_bipush (pc := 165) (y := mX6_readEntry) (Int32.ofNat 59) dX6_readEntry_165 rfl ?_
    refine wa_callV (pc := 167) (s_X6_sign (d := d - 1) (by omega) hL hL6 hs) dX6_readEntry_167 okX6_sign q3060 q3062 qs80 mH_o rfl rfl rfl (Nat.le_of_ble_eq_true rfl) (Nat.le_of_ble_eq_true rfl) (by omega) ?_
    rintro _ _ - - ⟨rfl, rfl⟩
    refine aft_0 (pc2 := 170) ?_ rfl
    first | refine wa_aload_n (pc := 170) (y := mX6_readEntry) dX6_readEntry_170 rfl ?_ | refine wa_aload_nN (pc := 170) (y := mX6_readEntry) dX6_readEntry_170 rfl ?_ | refine wa_aload_nq (pc := 170) (y := mX6_readEntry) dX6_readEntry_170 rfl ?_
    refine wa_dup (pc := 171) (y := mX6_readEntry) dX6_readEntry_171 rfl ?_
    refine wa_getf (pc := 172) (y := mX6_readEntry) (k := 5) 16 dX6_readEntry_172 mH_o rfl q2659 (Or.inl rfl) (Nat.le_of_ble_eq_true rfl) (by rfl) ?_
    rw [show ∀ a b c e, (TX σ a b E c e).2 16 = Int32.ofNat E from fun _ _ _ _ => rfl]
    refine wa_iconst (pc := 175) (y := mX6_readEntry) (Int32.ofNat 1) dX6_readEntry_175 rfl ?_
    first | with_reducible refine wa_iaddN (pc := 176) (y := mX6_readEntry) dX6_readEntry_176 ?_ | refine wa_iadd (pc := 176) (y := mX6_readEntry) dX6_readEntry_176 ?_
    refine wa_putf (pc := 177) (y := mX6_readEntry) (k := 5) 16 .int dX6_readEntry_177 mH_o rfl q2659 (Or.inl rfl) (Nat.le_of_ble_eq_true rfl) rfl (by decide +kernel) rfl rfl ?_
    rw [mW_o16, TX_e]
    exact wa_return (pc := 180) (y := mX6_readEntry) dX6_readEntry_180 rfl hQ
  have at143 : ∀ (s : Nat × Bool × (Nat → Int32)) k K2 Q, s.1 ≤ L → Q (.inl none) (mH h m f (TX σ (snT (σ.1 9) L 59 (reC (σ.1 9) L k E s).1 (reC (σ.1 9) L k E s).2.1).1 (snT (σ.1 9) L 59 (reC (σ.1 9) L k E s).1 (reC (σ.1 9) L k E s).2.1).2 (E + 1) K2 (reC (σ.1 9) L k E s).2.2)) → WA G d mX6_readEntry 143 [.ref m, .int (Int32.ofNat (3 * E)), .int k] [] (mH h m f (TX σ s.1 s.2.1 E K2 s.2.2)) Q := by
    intro s k K2 Q hs hQ
    by_cases e : k = 115
    · rw [show reC (σ.1 9) L k E s = _ from if_pos e] at hQ
      have h1 := at164 ((bhT (σ.1 9) L 64 3 s.1 s.2.1).2.1, (bhT (σ.1 9) L 64 3 s.1 s.2.1).2.2, upd s.2.2 (3 * E + 2) (bhT (σ.1 9) L 64 3 s.1 s.2.1).1) k K2 Q (nuT_le (snT_le hs)) hQ
      refine wa_iload_n (pc := 143) (y := mX6_readEntry) dX6_readEntry_143 rfl ?_
      refine wa_bipush (pc := 144) (y := mX6_readEntry) (Int32.ofNat 115) dX6_readEntry_144 rfl ?_
      refine wa_icmp_ne (pc := 146) 164 dX6_readEntry_146 rfl (fun hb146 => absurd e hb146) (fun hb146 => ?_)
      first | refine wa_aload_n (pc := 149) (y := mX6_readEntry) dX6_readEntry_149 rfl ?_ | refine wa_aload_nN (pc := 149) (y := mX6_readEntry) dX6_readEntry_149 rfl ?_ | refine wa_aload_nq (pc := 149) (y := mX6_readEntry) dX6_readEntry_149 rfl ?_
      refine wa_getf (pc := 150) (y := mX6_readEntry) (k := 5) 15 dX6_readEntry_150 mH_o rfl q2658 (Or.inl rfl) (Nat.le_of_ble_eq_true rfl) (by rfl) ?_
      refine wa_iload_n (pc := 153) (y := mX6_readEntry) dX6_readEntry_153 rfl ?_
      refine wa_iconst (pc := 154) (y := mX6_readEntry) (Int32.ofNat 2) dX6_readEntry_154 rfl ?_
      first | with_reducible refine wa_iaddN (pc := 155) (y := mX6_readEntry) dX6_readEntry_155 ?_ | refine wa_iadd (pc := 155) (y := mX6_readEntry) dX6_readEntry_155 ?_
      first | refine wa_aload_n (pc := 156) (y := mX6_readEntry) dX6_readEntry_156 rfl ?_ | refine wa_aload_nN (pc := 156) (y := mX6_readEntry) dX6_readEntry_156 rfl ?_ | refine wa_aload_nq (pc := 156) (y := mX6_readEntry) dX6_readEntry_156 rfl ?_
      refine wa_bipush (pc := 157) (y := mX6_readEntry) (Int32.ofNat 64) dX6_readEntry_157 rfl ?_
      refine wa_iconst (pc := 159) (y := mX6_readEntry) (Int32.ofNat 3) dX6_readEntry_159 rfl ?_
      refine wa_callV (pc := 160) (s_X6_behind (d := d - 1) (by omega) (by omega) hL hL6 hs) dX6_readEntry_160 okX6_behind q3056 q3058 qs79 mH_o rfl rfl rfl (Nat.le_of_ble_eq_true rfl) (Nat.le_of_ble_eq_true rfl) (by omega) ?_
      rintro _ _ - - ⟨rfl, rfl⟩
      refine aft_v (pc2 := 163) ?_ rfl
      refine wa_iastoreN (pc := 163) (y := mX6_readEntry) dX6_readEntry_163 mH_8 (by omega) ?_
      rw [mW_8, TX_N]
      exact h1
    · rw [show reC (σ.1 9) L k E s = s from if_neg e] at hQ
      have h1 := at164 s k K2 Q hs hQ
      refine wa_iload_n (pc := 143) (y := mX6_readEntry) dX6_readEntry_143 rfl ?_
      refine wa_bipush (pc := 144) (y := mX6_readEntry) (Int32.ofNat 115) dX6_readEntry_144 rfl ?_
      refine wa_icmp_ne (pc := 146) 164 dX6_readEntry_146 rfl (fun hb146 => ?_) (fun hb146 => absurd hb146 e)
      exact h1
  have at116 : ∀ (s : Nat × Bool × (Nat → Int32)) k K2 Q, s.1 ≤ L → Q (.inl none) (mH h m f (TX σ (snT (σ.1 9) L 59 (reC (σ.1 9) L k E (reB (σ.1 9) L k E s)).1 (reC (σ.1 9) L k E (reB (σ.1 9) L k E s)).2.1).1 (snT (σ.1 9) L 59 (reC (σ.1 9) L k E (reB (σ.1 9) L k E s)).1 (reC (σ.1 9) L k E (reB (σ.1 9) L k E s)).2.1).2 (E + 1) K2 (reC (σ.1 9) L k E (reB (σ.1 9) L k E s)).2.2)) → WA G d mX6_readEntry 116 [.ref m, .int (Int32.ofNat (3 * E)), .int k] [] (mH h m f (TX σ s.1 s.2.1 E K2 s.2.2)) Q := by
    intro s k K2 Q hs hQ
    by_cases e : k = 115 ∨ k = 114
    · rw [show reB (σ.1 9) L k E s = ((bhT (σ.1 9) L 47 2 s.1 s.2.1).2.1, (bhT (σ.1 9) L 47 2 s.1 s.2.1).2.2, upd s.2.2 (3 * E + 1) (bhT (σ.1 9) L 47 2 s.1 s.2.1).1) from if_pos e] at hQ
      have h1 := at143 ((bhT (σ.1 9) L 47 2 s.1 s.2.1).2.1, (bhT (σ.1 9) L 47 2 s.1 s.2.1).2.2, upd s.2.2 (3 * E + 1) (bhT (σ.1 9) L 47 2 s.1 s.2.1).1) k K2 Q (nuT_le (snT_le hs)) hQ
      have at128 : WA G d mX6_readEntry 128 [.ref m, .int (Int32.ofNat (3 * E)), .int k] [] (mH h m f (TX σ s.1 s.2.1 E K2 s.2.2)) Q := by
        first | refine wa_aload_n (pc := 128) (y := mX6_readEntry) dX6_readEntry_128 rfl ?_ | refine wa_aload_nN (pc := 128) (y := mX6_readEntry) dX6_readEntry_128 rfl ?_ | refine wa_aload_nq (pc := 128) (y := mX6_readEntry) dX6_readEntry_128 rfl ?_
        refine wa_getf (pc := 129) (y := mX6_readEntry) (k := 5) 15 dX6_readEntry_129 mH_o rfl q2658 (Or.inl rfl) (Nat.le_of_ble_eq_true rfl) (by rfl) ?_
        refine wa_iload_n (pc := 132) (y := mX6_readEntry) dX6_readEntry_132 rfl ?_
        refine wa_iconst (pc := 133) (y := mX6_readEntry) (Int32.ofNat 1) dX6_readEntry_133 rfl ?_
        first | with_reducible refine wa_iaddN (pc := 134) (y := mX6_readEntry) dX6_readEntry_134 ?_ | refine wa_iadd (pc := 134) (y := mX6_readEntry) dX6_readEntry_134 ?_
        first | refine wa_aload_n (pc := 135) (y := mX6_readEntry) dX6_readEntry_135 rfl ?_ | refine wa_aload_nN (pc := 135) (y := mX6_readEntry) dX6_readEntry_135 rfl ?_ | refine wa_aload_nq (pc := 135) (y := mX6_readEntry) dX6_readEntry_135 rfl ?_
        refine wa_bipush (pc := 136) (y := mX6_readEntry) (Int32.ofNat 47) dX6_readEntry_136 rfl ?_
        refine wa_iconst (pc := 138) (y := mX6_readEntry) (Int32.ofNat 2) dX6_readEntry_138 rfl ?_
        refine wa_callV (pc := 139) (s_X6_behind (d := d - 1) (by omega) (by omega) hL hL6 hs) dX6_readEntry_139 okX6_behind q3056 q3058 qs79 mH_o rfl rfl rfl (Nat.le_of_ble_eq_true rfl) (Nat.le_of_ble_eq_true rfl) (by omega) ?_
        rintro _ _ - - ⟨rfl, rfl⟩
        refine aft_v (pc2 := 142) ?_ rfl
        refine wa_iastoreN (pc := 142) (y := mX6_readEntry) dX6_readEntry_142 mH_8 (by omega) ?_
        rw [mW_8, TX_N]
        exact h1
      refine wa_iload_n (pc := 116) (y := mX6_readEntry) dX6_readEntry_116 rfl ?_
      refine wa_bipush (pc := 117) (y := mX6_readEntry) (Int32.ofNat 115) dX6_readEntry_117 rfl ?_
      refine wa_icmp_eq (pc := 119) 128 dX6_readEntry_119 rfl (fun hb119 => ?_) (fun hb119 => ?_)
      · exact at128
      · refine wa_iload_n (pc := 122) (y := mX6_readEntry) dX6_readEntry_122 rfl ?_
        refine wa_bipush (pc := 123) (y := mX6_readEntry) (Int32.ofNat 114) dX6_readEntry_123 rfl ?_
        refine wa_icmp_ne (pc := 125) 143 dX6_readEntry_125 rfl (fun hb125 => absurd (e.resolve_left hb119) hb125) (fun hb125 => ?_)
        exact at128
    · rw [show reB (σ.1 9) L k E s = s from if_neg e] at hQ
      have h1 := at143 s k K2 Q hs hQ
      refine wa_iload_n (pc := 116) (y := mX6_readEntry) dX6_readEntry_116 rfl ?_
      refine wa_bipush (pc := 117) (y := mX6_readEntry) (Int32.ofNat 115) dX6_readEntry_117 rfl ?_
      refine wa_icmp_eq (pc := 119) 128 dX6_readEntry_119 rfl (fun hb119 => absurd (Or.inl hb119) e) (fun hb119 => ?_)
      refine wa_iload_n (pc := 122) (y := mX6_readEntry) dX6_readEntry_122 rfl ?_
      refine wa_bipush (pc := 123) (y := mX6_readEntry) (Int32.ofNat 114) dX6_readEntry_123 rfl ?_
      refine wa_icmp_ne (pc := 125) 143 dX6_readEntry_125 rfl (fun hb125 => ?_) (fun hb125 => absurd (Or.inr hb125) e)
      exact h1
  unfold reD
  have at33 : WA G d mX6_readEntry 33 [.ref m, .int (Int32.ofNat (3 * E)), .int (reK (σ.1 9) L p)] [] (mH h m f (TX σ p w E K N)) (fun r h' => r = .inl none ∧ h' = mH h m f (TX σ (snT (σ.1 9) L 59 (reC (σ.1 9) L (reK (σ.1 9) L p) E (reB (σ.1 9) L (reK (σ.1 9) L p) E (reA (σ.1 9) L p (reK (σ.1 9) L p) E N))).1 (reC (σ.1 9) L (reK (σ.1 9) L p) E (reB (σ.1 9) L (reK (σ.1 9) L p) E (reA (σ.1 9) L p (reK (σ.1 9) L p) E N))).2.1).1 (snT (σ.1 9) L 59 (reC (σ.1 9) L (reK (σ.1 9) L p) E (reB (σ.1 9) L (reK (σ.1 9) L p) E (reA (σ.1 9) L p (reK (σ.1 9) L p) E N))).1 (reC (σ.1 9) L (reK (σ.1 9) L p) E (reB (σ.1 9) L (reK (σ.1 9) L p) E (reA (σ.1 9) L p (reK (σ.1 9) L p) E N))).2.1).2 (E + 1) (upd K E (reK (σ.1 9) L p)) (reC (σ.1 9) L (reK (σ.1 9) L p) E (reB (σ.1 9) L (reK (σ.1 9) L p) E (reA (σ.1 9) L p (reK (σ.1 9) L p) E N))).2.2)) := by
    have hkp : sgB (reK (σ.1 9) L p) = true → p < L := fun h9 => by
      unfold reK at h9
      split at h9
      · assumption
      · exact absurd h9 (by decide)
    generalize reK (σ.1 9) L p = k at hkN hknar hkp ⊢
    cases es : sgB k with
    | false =>
      have h1 := at116 (p, true, N) k (upd K E k) (fun r h' => r = .inl none ∧ h' = mH h m f (TX σ (snT (σ.1 9) L 59 (reC (σ.1 9) L k E (reB (σ.1 9) L k E (p, true, N))).1 (reC (σ.1 9) L k E (reB (σ.1 9) L k E (p, true, N))).2.1).1 (snT (σ.1 9) L 59 (reC (σ.1 9) L k E (reB (σ.1 9) L k E (p, true, N))).1 (reC (σ.1 9) L k E (reB (σ.1 9) L k E (p, true, N))).2.1).2 (E + 1) (upd K E k) (reC (σ.1 9) L k E (reB (σ.1 9) L k E (p, true, N))).2.2)) hp ⟨rfl, rfl⟩
      rw [show reA (σ.1 9) L p k E N = (p, true, N) by unfold reA; rw [es]; rfl]
      first | refine wa_aload_n (pc := 33) (y := mX6_readEntry) dX6_readEntry_33 rfl ?_ | refine wa_aload_nN (pc := 33) (y := mX6_readEntry) dX6_readEntry_33 rfl ?_ | refine wa_aload_nq (pc := 33) (y := mX6_readEntry) dX6_readEntry_33 rfl ?_
      refine wa_getf (pc := 34) (y := mX6_readEntry) (k := 5) 14 dX6_readEntry_34 mH_o rfl q2657 (Or.inl rfl) (Nat.le_of_ble_eq_true rfl) (by rfl) ?_
      first | refine wa_aload_n (pc := 37) (y := mX6_readEntry) dX6_readEntry_37 rfl ?_ | refine wa_aload_nN (pc := 37) (y := mX6_readEntry) dX6_readEntry_37 rfl ?_ | refine wa_aload_nq (pc := 37) (y := mX6_readEntry) dX6_readEntry_37 rfl ?_
      refine wa_getf (pc := 38) (y := mX6_readEntry) (k := 5) 16 dX6_readEntry_38 mH_o rfl q2659 (Or.inl rfl) (Nat.le_of_ble_eq_true rfl) (by rfl) ?_
      rw [show (TX σ p w E K N).2 16 = Int32.ofNat E from rfl]
      refine wa_iload_n (pc := 41) (y := mX6_readEntry) dX6_readEntry_41 rfl ?_
      refine wa_castoreN (pc := 42) (y := mX6_readEntry) dX6_readEntry_42 mH_7 (by omega) hknar ?_
      rw [mW_7, TX_K]
      first | refine wa_aload_n (pc := 43) (y := mX6_readEntry) dX6_readEntry_43 rfl ?_ | refine wa_aload_nN (pc := 43) (y := mX6_readEntry) dX6_readEntry_43 rfl ?_ | refine wa_aload_nq (pc := 43) (y := mX6_readEntry) dX6_readEntry_43 rfl ?_
      refine wa_ldcStr (pc := 44) (y := mX6_readEntry) dX6_readEntry_44 q3003 hq ?_
      refine wa_iload_n (pc := 46) (y := mX6_readEntry) dX6_readEntry_46 rfl ?_
      refine wa_callVSt (pc := 47) (s_J11_indexOf (d := d - 1) (by omega) hkN hG hO hc hv hT) dX6_readEntry_47 okJ11_indexOf q3004 q3005 q3006 hO rfl rfl (Nat.le_of_ble_eq_true rfl) (Nat.le_of_ble_eq_true rfl) (by omega) ?_
      rintro _ _ - - ⟨v, ⟨rfl, rfl⟩, hv9⟩
      refine aft_v (pc2 := 50) ?_ rfl
      refine wa_if_ge (pc := 50) 57 dX6_readEntry_50 rfl (fun hb50 => absurd (hv9.mpr es) (Int32.not_lt.mpr hb50)) (fun hb50 => ?_)
      refine wa_iconst (pc := 53) (y := mX6_readEntry) (Int32.ofNat 1) dX6_readEntry_53 rfl ?_
      refine wa_goto (pc := 54) (y := mX6_readEntry) 58 dX6_readEntry_54 rfl ?_
      refine wa_putf (pc := 58) (y := mX6_readEntry) (k := 5) 12 .boolean dX6_readEntry_58 mH_o rfl q2655 (Or.inl rfl) (Nat.le_of_ble_eq_true rfl) rfl (by decide +kernel) rfl rfl ?_
      rw [mW_o12, show ∀ a b c e, mV (TX σ a b c e N) 12 (Int32.ofNat 1) = TX σ a true c e N from fun a b c e => TX_w σ a b true c e N]
      first | refine wa_aload_n (pc := 61) (y := mX6_readEntry) dX6_readEntry_61 rfl ?_ | refine wa_aload_nN (pc := 61) (y := mX6_readEntry) dX6_readEntry_61 rfl ?_ | refine wa_aload_nq (pc := 61) (y := mX6_readEntry) dX6_readEntry_61 rfl ?_
      refine wa_dup (pc := 62) (y := mX6_readEntry) dX6_readEntry_62 rfl ?_
      refine wa_getf (pc := 63) (y := mX6_readEntry) (k := 5) 11 dX6_readEntry_63 mH_o rfl q2654 (Or.inl rfl) (Nat.le_of_ble_eq_true rfl) (by rfl) ?_
      rw [show ∀ c, (TX σ p true E c N).2 11 = Int32.ofNat p from fun _ => rfl]
      first | refine wa_aload_n (pc := 66) (y := mX6_readEntry) dX6_readEntry_66 rfl ?_ | refine wa_aload_nN (pc := 66) (y := mX6_readEntry) dX6_readEntry_66 rfl ?_ | refine wa_aload_nq (pc := 66) (y := mX6_readEntry) dX6_readEntry_66 rfl ?_
      refine wa_getf (pc := 67) (y := mX6_readEntry) (k := 5) 12 dX6_readEntry_67 mH_o rfl q2655 (Or.inl rfl) (Nat.le_of_ble_eq_true rfl) (by rfl) ?_
      rw [show ∀ c, (TX σ p true E c N).2 12 = bI true from fun _ => rfl]
      refine wa_if_eq (pc := 70) 77 dX6_readEntry_70 rfl (fun hb70 => absurd hb70 (by decide)) (fun hb70 => ?_)
      refine wa_iconst (pc := 73) (y := mX6_readEntry) (Int32.ofNat 0) dX6_readEntry_73 rfl ?_
      refine wa_goto (pc := 74) (y := mX6_readEntry) 78 dX6_readEntry_74 rfl ?_
      first | with_reducible refine wa_iaddN (pc := 78) (y := mX6_readEntry) dX6_readEntry_78 ?_ | refine wa_iadd (pc := 78) (y := mX6_readEntry) dX6_readEntry_78 ?_
      refine wa_putf (pc := 79) (y := mX6_readEntry) (k := 5) 11 .int dX6_readEntry_79 mH_o rfl q2654 (Or.inl rfl) (Nat.le_of_ble_eq_true rfl) rfl (by decide +kernel) rfl rfl ?_
      rw [mW_o11, TX_p]
      first | refine wa_aload_n (pc := 82) (y := mX6_readEntry) dX6_readEntry_82 rfl ?_ | refine wa_aload_nN (pc := 82) (y := mX6_readEntry) dX6_readEntry_82 rfl ?_ | refine wa_aload_nq (pc := 82) (y := mX6_readEntry) dX6_readEntry_82 rfl ?_
      refine wa_getf (pc := 83) (y := mX6_readEntry) (k := 5) 12 dX6_readEntry_83 mH_o rfl q2655 (Or.inl rfl) (Nat.le_of_ble_eq_true rfl) (by rfl) ?_
      rw [show ∀ a c, (TX σ a true E c N).2 12 = bI true from fun _ _ => rfl]
      refine wa_if_ne (pc := 86) 116 dX6_readEntry_86 rfl (fun hb86 => ?_) (fun hb86 => absurd hb86 (by decide))
      exact h1
    | true =>
      have hlt := hkp es
      have h1 := fun (s : Nat × Bool × (Nat → Int32)) (hs : s.1 ≤ L) => at116 s k (upd K E k) (fun r h' => r = .inl none ∧ h' = mH h m f (TX σ (snT (σ.1 9) L 59 (reC (σ.1 9) L k E (reB (σ.1 9) L k E s)).1 (reC (σ.1 9) L k E (reB (σ.1 9) L k E s)).2.1).1 (snT (σ.1 9) L 59 (reC (σ.1 9) L k E (reB (σ.1 9) L k E s)).1 (reC (σ.1 9) L k E (reB (σ.1 9) L k E s)).2.1).2 (E + 1) (upd K E k) (reC (σ.1 9) L k E (reB (σ.1 9) L k E s)).2.2)) hs ⟨rfl, rfl⟩
      by_cases e3 : k = 103
      · rw [show reA (σ.1 9) L p k E N = (p + 1, false, N) by unfold reA; rw [if_neg (fun x => x.2 e3), es]; rfl]
        first | refine wa_aload_n (pc := 33) (y := mX6_readEntry) dX6_readEntry_33 rfl ?_ | refine wa_aload_nN (pc := 33) (y := mX6_readEntry) dX6_readEntry_33 rfl ?_ | refine wa_aload_nq (pc := 33) (y := mX6_readEntry) dX6_readEntry_33 rfl ?_
        refine wa_getf (pc := 34) (y := mX6_readEntry) (k := 5) 14 dX6_readEntry_34 mH_o rfl q2657 (Or.inl rfl) (Nat.le_of_ble_eq_true rfl) (by rfl) ?_
        first | refine wa_aload_n (pc := 37) (y := mX6_readEntry) dX6_readEntry_37 rfl ?_ | refine wa_aload_nN (pc := 37) (y := mX6_readEntry) dX6_readEntry_37 rfl ?_ | refine wa_aload_nq (pc := 37) (y := mX6_readEntry) dX6_readEntry_37 rfl ?_
        refine wa_getf (pc := 38) (y := mX6_readEntry) (k := 5) 16 dX6_readEntry_38 mH_o rfl q2659 (Or.inl rfl) (Nat.le_of_ble_eq_true rfl) (by rfl) ?_
        rw [show (TX σ p w E K N).2 16 = Int32.ofNat E from rfl]
        refine wa_iload_n (pc := 41) (y := mX6_readEntry) dX6_readEntry_41 rfl ?_
        refine wa_castoreN (pc := 42) (y := mX6_readEntry) dX6_readEntry_42 mH_7 (by omega) hknar ?_
        rw [mW_7, TX_K]
        first | refine wa_aload_n (pc := 43) (y := mX6_readEntry) dX6_readEntry_43 rfl ?_ | refine wa_aload_nN (pc := 43) (y := mX6_readEntry) dX6_readEntry_43 rfl ?_ | refine wa_aload_nq (pc := 43) (y := mX6_readEntry) dX6_readEntry_43 rfl ?_
        refine wa_ldcStr (pc := 44) (y := mX6_readEntry) dX6_readEntry_44 q3003 hq ?_
        refine wa_iload_n (pc := 46) (y := mX6_readEntry) dX6_readEntry_46 rfl ?_
        refine wa_callVSt (pc := 47) (s_J11_indexOf (d := d - 1) (by omega) hkN hG hO hc hv hT) dX6_readEntry_47 okJ11_indexOf q3004 q3005 q3006 hO rfl rfl (Nat.le_of_ble_eq_true rfl) (Nat.le_of_ble_eq_true rfl) (by omega) ?_
        rintro _ _ - - ⟨v, ⟨rfl, rfl⟩, hv9⟩
        refine aft_v (pc2 := 50) ?_ rfl
        refine wa_if_ge (pc := 50) 57 dX6_readEntry_50 rfl (fun hb50 => ?_) (fun hb50 => absurd (hv9.mp (Int32.not_le.mp hb50)) (by rw [es]; decide))
        refine wa_iconst (pc := 57) (y := mX6_readEntry) (Int32.ofNat 0) dX6_readEntry_57 rfl ?_
        refine wa_putf (pc := 58) (y := mX6_readEntry) (k := 5) 12 .boolean dX6_readEntry_58 mH_o rfl q2655 (Or.inl rfl) (Nat.le_of_ble_eq_true rfl) rfl (by decide +kernel) rfl rfl ?_
        rw [mW_o12, show ∀ a b c e, mV (TX σ a b c e N) 12 (Int32.ofNat 0) = TX σ a false c e N from fun a b c e => TX_w σ a b false c e N]
        first | refine wa_aload_n (pc := 61) (y := mX6_readEntry) dX6_readEntry_61 rfl ?_ | refine wa_aload_nN (pc := 61) (y := mX6_readEntry) dX6_readEntry_61 rfl ?_ | refine wa_aload_nq (pc := 61) (y := mX6_readEntry) dX6_readEntry_61 rfl ?_
        refine wa_dup (pc := 62) (y := mX6_readEntry) dX6_readEntry_62 rfl ?_
        refine wa_getf (pc := 63) (y := mX6_readEntry) (k := 5) 11 dX6_readEntry_63 mH_o rfl q2654 (Or.inl rfl) (Nat.le_of_ble_eq_true rfl) (by rfl) ?_
        rw [show ∀ c, (TX σ p false E c N).2 11 = Int32.ofNat p from fun _ => rfl]
        first | refine wa_aload_n (pc := 66) (y := mX6_readEntry) dX6_readEntry_66 rfl ?_ | refine wa_aload_nN (pc := 66) (y := mX6_readEntry) dX6_readEntry_66 rfl ?_ | refine wa_aload_nq (pc := 66) (y := mX6_readEntry) dX6_readEntry_66 rfl ?_
        refine wa_getf (pc := 67) (y := mX6_readEntry) (k := 5) 12 dX6_readEntry_67 mH_o rfl q2655 (Or.inl rfl) (Nat.le_of_ble_eq_true rfl) (by rfl) ?_
        rw [show ∀ c, (TX σ p false E c N).2 12 = bI false from fun _ => rfl]
        refine wa_if_eq (pc := 70) 77 dX6_readEntry_70 rfl (fun hb70 => ?_) (fun hb70 => absurd rfl hb70)
        refine wa_iconst (pc := 77) (y := mX6_readEntry) (Int32.ofNat 1) dX6_readEntry_77 rfl ?_
        first | with_reducible refine wa_iaddN (pc := 78) (y := mX6_readEntry) dX6_readEntry_78 ?_ | refine wa_iadd (pc := 78) (y := mX6_readEntry) dX6_readEntry_78 ?_
        refine wa_putf (pc := 79) (y := mX6_readEntry) (k := 5) 11 .int dX6_readEntry_79 mH_o rfl q2654 (Or.inl rfl) (Nat.le_of_ble_eq_true rfl) rfl (by decide +kernel) rfl rfl ?_
        rw [mW_o11, TX_p]
        first | refine wa_aload_n (pc := 82) (y := mX6_readEntry) dX6_readEntry_82 rfl ?_ | refine wa_aload_nN (pc := 82) (y := mX6_readEntry) dX6_readEntry_82 rfl ?_ | refine wa_aload_nq (pc := 82) (y := mX6_readEntry) dX6_readEntry_82 rfl ?_
        refine wa_getf (pc := 83) (y := mX6_readEntry) (k := 5) 12 dX6_readEntry_83 mH_o rfl q2655 (Or.inl rfl) (Nat.le_of_ble_eq_true rfl) (by rfl) ?_
        rw [show ∀ a c, (TX σ a false E c N).2 12 = bI false from fun _ _ => rfl]
        refine wa_if_ne (pc := 86) 116 dX6_readEntry_86 rfl (fun hb86 => absurd rfl hb86) (fun hb86 => ?_)
        refine wa_iload_n (pc := 89) (y := mX6_readEntry) dX6_readEntry_89 rfl ?_
        refine wa_bipush (pc := 90) (y := mX6_readEntry) (Int32.ofNat 103) dX6_readEntry_90 rfl ?_
        refine wa_icmp_eq (pc := 92) 116 dX6_readEntry_92 rfl (fun hb92 => ?_) (fun hb92 => absurd e3 hb92)
        exact h1 (p + 1, false, N) hlt
      · rw [show reA (σ.1 9) L p k E N = _ from if_pos ⟨es, e3⟩]
        first | refine wa_aload_n (pc := 33) (y := mX6_readEntry) dX6_readEntry_33 rfl ?_ | refine wa_aload_nN (pc := 33) (y := mX6_readEntry) dX6_readEntry_33 rfl ?_ | refine wa_aload_nq (pc := 33) (y := mX6_readEntry) dX6_readEntry_33 rfl ?_
        refine wa_getf (pc := 34) (y := mX6_readEntry) (k := 5) 14 dX6_readEntry_34 mH_o rfl q2657 (Or.inl rfl) (Nat.le_of_ble_eq_true rfl) (by rfl) ?_
        first | refine wa_aload_n (pc := 37) (y := mX6_readEntry) dX6_readEntry_37 rfl ?_ | refine wa_aload_nN (pc := 37) (y := mX6_readEntry) dX6_readEntry_37 rfl ?_ | refine wa_aload_nq (pc := 37) (y := mX6_readEntry) dX6_readEntry_37 rfl ?_
        refine wa_getf (pc := 38) (y := mX6_readEntry) (k := 5) 16 dX6_readEntry_38 mH_o rfl q2659 (Or.inl rfl) (Nat.le_of_ble_eq_true rfl) (by rfl) ?_
        rw [show (TX σ p w E K N).2 16 = Int32.ofNat E from rfl]
        refine wa_iload_n (pc := 41) (y := mX6_readEntry) dX6_readEntry_41 rfl ?_
        refine wa_castoreN (pc := 42) (y := mX6_readEntry) dX6_readEntry_42 mH_7 (by omega) hknar ?_
        rw [mW_7, TX_K]
        first | refine wa_aload_n (pc := 43) (y := mX6_readEntry) dX6_readEntry_43 rfl ?_ | refine wa_aload_nN (pc := 43) (y := mX6_readEntry) dX6_readEntry_43 rfl ?_ | refine wa_aload_nq (pc := 43) (y := mX6_readEntry) dX6_readEntry_43 rfl ?_
        refine wa_ldcStr (pc := 44) (y := mX6_readEntry) dX6_readEntry_44 q3003 hq ?_
        refine wa_iload_n (pc := 46) (y := mX6_readEntry) dX6_readEntry_46 rfl ?_
        refine wa_callVSt (pc := 47) (s_J11_indexOf (d := d - 1) (by omega) hkN hG hO hc hv hT) dX6_readEntry_47 okJ11_indexOf q3004 q3005 q3006 hO rfl rfl (Nat.le_of_ble_eq_true rfl) (Nat.le_of_ble_eq_true rfl) (by omega) ?_
        rintro _ _ - - ⟨v, ⟨rfl, rfl⟩, hv9⟩
        refine aft_v (pc2 := 50) ?_ rfl
        refine wa_if_ge (pc := 50) 57 dX6_readEntry_50 rfl (fun hb50 => ?_) (fun hb50 => absurd (hv9.mp (Int32.not_le.mp hb50)) (by rw [es]; decide))
        refine wa_iconst (pc := 57) (y := mX6_readEntry) (Int32.ofNat 0) dX6_readEntry_57 rfl ?_
        refine wa_putf (pc := 58) (y := mX6_readEntry) (k := 5) 12 .boolean dX6_readEntry_58 mH_o rfl q2655 (Or.inl rfl) (Nat.le_of_ble_eq_true rfl) rfl (by decide +kernel) rfl rfl ?_
        rw [mW_o12, show ∀ a b c e, mV (TX σ a b c e N) 12 (Int32.ofNat 0) = TX σ a false c e N from fun a b c e => TX_w σ a b false c e N]
        first | refine wa_aload_n (pc := 61) (y := mX6_readEntry) dX6_readEntry_61 rfl ?_ | refine wa_aload_nN (pc := 61) (y := mX6_readEntry) dX6_readEntry_61 rfl ?_ | refine wa_aload_nq (pc := 61) (y := mX6_readEntry) dX6_readEntry_61 rfl ?_
        refine wa_dup (pc := 62) (y := mX6_readEntry) dX6_readEntry_62 rfl ?_
        refine wa_getf (pc := 63) (y := mX6_readEntry) (k := 5) 11 dX6_readEntry_63 mH_o rfl q2654 (Or.inl rfl) (Nat.le_of_ble_eq_true rfl) (by rfl) ?_
        rw [show ∀ c, (TX σ p false E c N).2 11 = Int32.ofNat p from fun _ => rfl]
        first | refine wa_aload_n (pc := 66) (y := mX6_readEntry) dX6_readEntry_66 rfl ?_ | refine wa_aload_nN (pc := 66) (y := mX6_readEntry) dX6_readEntry_66 rfl ?_ | refine wa_aload_nq (pc := 66) (y := mX6_readEntry) dX6_readEntry_66 rfl ?_
        refine wa_getf (pc := 67) (y := mX6_readEntry) (k := 5) 12 dX6_readEntry_67 mH_o rfl q2655 (Or.inl rfl) (Nat.le_of_ble_eq_true rfl) (by rfl) ?_
        rw [show ∀ c, (TX σ p false E c N).2 12 = bI false from fun _ => rfl]
        refine wa_if_eq (pc := 70) 77 dX6_readEntry_70 rfl (fun hb70 => ?_) (fun hb70 => absurd rfl hb70)
        refine wa_iconst (pc := 77) (y := mX6_readEntry) (Int32.ofNat 1) dX6_readEntry_77 rfl ?_
        first | with_reducible refine wa_iaddN (pc := 78) (y := mX6_readEntry) dX6_readEntry_78 ?_ | refine wa_iadd (pc := 78) (y := mX6_readEntry) dX6_readEntry_78 ?_
        refine wa_putf (pc := 79) (y := mX6_readEntry) (k := 5) 11 .int dX6_readEntry_79 mH_o rfl q2654 (Or.inl rfl) (Nat.le_of_ble_eq_true rfl) rfl (by decide +kernel) rfl rfl ?_
        rw [mW_o11, TX_p]
        first | refine wa_aload_n (pc := 82) (y := mX6_readEntry) dX6_readEntry_82 rfl ?_ | refine wa_aload_nN (pc := 82) (y := mX6_readEntry) dX6_readEntry_82 rfl ?_ | refine wa_aload_nq (pc := 82) (y := mX6_readEntry) dX6_readEntry_82 rfl ?_
        refine wa_getf (pc := 83) (y := mX6_readEntry) (k := 5) 12 dX6_readEntry_83 mH_o rfl q2655 (Or.inl rfl) (Nat.le_of_ble_eq_true rfl) (by rfl) ?_
        rw [show ∀ a c, (TX σ a false E c N).2 12 = bI false from fun _ _ => rfl]
        refine wa_if_ne (pc := 86) 116 dX6_readEntry_86 rfl (fun hb86 => absurd rfl hb86) (fun hb86 => ?_)
        refine wa_iload_n (pc := 89) (y := mX6_readEntry) dX6_readEntry_89 rfl ?_
        refine wa_bipush (pc := 90) (y := mX6_readEntry) (Int32.ofNat 103) dX6_readEntry_90 rfl ?_
        refine wa_icmp_eq (pc := 92) 116 dX6_readEntry_92 rfl (fun hb92 => absurd hb92 e3) (fun hb92 => ?_)
        first | refine wa_aload_n (pc := 95) (y := mX6_readEntry) dX6_readEntry_95 rfl ?_ | refine wa_aload_nN (pc := 95) (y := mX6_readEntry) dX6_readEntry_95 rfl ?_ | refine wa_aload_nq (pc := 95) (y := mX6_readEntry) dX6_readEntry_95 rfl ?_
        refine wa_getf (pc := 96) (y := mX6_readEntry) (k := 5) 15 dX6_readEntry_96 mH_o rfl q2658 (Or.inl rfl) (Nat.le_of_ble_eq_true rfl) (by rfl) ?_
        refine wa_iload_n (pc := 99) (y := mX6_readEntry) dX6_readEntry_99 rfl ?_
        first | refine wa_aload_n (pc := 100) (y := mX6_readEntry) dX6_readEntry_100 rfl ?_ | refine wa_aload_nN (pc := 100) (y := mX6_readEntry) dX6_readEntry_100 rfl ?_ | refine wa_aload_nq (pc := 100) (y := mX6_readEntry) dX6_readEntry_100 rfl ?_
        refine wa_iload_n (pc := 101) (y := mX6_readEntry) dX6_readEntry_101 rfl ?_
        refine wa_bipush (pc := 102) (y := mX6_readEntry) (Int32.ofNat 116) dX6_readEntry_102 rfl ?_
        refine wa_icmp_ne (pc := 104) 111 dX6_readEntry_104 rfl (fun hb104 => ?_) (fun hb104 => ?_)
        · rw [if_neg (show ¬ k = 116 from hb104)]
          refine wa_iconst (pc := 111) (y := mX6_readEntry) (Int32.ofNat 2) dX6_readEntry_111 rfl ?_
          refine wa_callV (pc := 112) (s_X6_number (d := d - 1) (by omega) (by omega) hL hL6 hlt) dX6_readEntry_112 okX6_number q3048 q3050 qs77 mH_o rfl rfl rfl (Nat.le_of_ble_eq_true rfl) (Nat.le_of_ble_eq_true rfl) (by omega) ?_
          rintro _ _ - - ⟨rfl, rfl⟩
          refine aft_v (pc2 := 115) ?_ rfl
          refine wa_iastoreN (pc := 115) (y := mX6_readEntry) dX6_readEntry_115 mH_8 (by omega) ?_
          rw [mW_8, TX_N]
          exact h1 (_, _, _) (nuT_le hlt)
        · rw [if_pos (show k = 116 from hb104)]
          refine wa_iconst (pc := 107) (y := mX6_readEntry) (Int32.ofNat 4) dX6_readEntry_107 rfl ?_
          refine wa_goto (pc := 108) (y := mX6_readEntry) 112 dX6_readEntry_108 rfl ?_
          refine wa_callV (pc := 112) (s_X6_number (d := d - 1) (by omega) (by omega) hL hL6 hlt) dX6_readEntry_112 okX6_number q3048 q3050 qs77 mH_o rfl rfl rfl (Nat.le_of_ble_eq_true rfl) (Nat.le_of_ble_eq_true rfl) (by omega) ?_
          rintro _ _ - - ⟨rfl, rfl⟩
          refine aft_v (pc2 := 115) ?_ rfl
          refine wa_iastoreN (pc := 115) (y := mX6_readEntry) dX6_readEntry_115 mH_8 (by omega) ?_
          rw [mW_8, TX_N]
          exact h1 (_, _, _) (nuT_le hlt)
  by_cases e : p < L
  · refine wa_iconst (pc := 0) (y := mX6_readEntry) (Int32.ofNat 3) dX6_readEntry_0 rfl ?_
    first | refine wa_aload_n (pc := 1) (y := mX6_readEntry) dX6_readEntry_1 rfl ?_ | refine wa_aload_nN (pc := 1) (y := mX6_readEntry) dX6_readEntry_1 rfl ?_ | refine wa_aload_nq (pc := 1) (y := mX6_readEntry) dX6_readEntry_1 rfl ?_
    refine wa_getf (pc := 2) (y := mX6_readEntry) (k := 5) 16 dX6_readEntry_2 mH_o rfl q2659 (Or.inl rfl) (Nat.le_of_ble_eq_true rfl) (by rfl) ?_
    rw [show (TX σ p w E K N).2 16 = Int32.ofNat E from rfl]
    first | with_reducible refine wa_imulN (pc := 5) (y := mX6_readEntry) dX6_readEntry_5 ?_ | refine wa_imul (pc := 5) (y := mX6_readEntry) dX6_readEntry_5 ?_
    refine wa_istore_n (pc := 6) (y := mX6_readEntry) dX6_readEntry_6 (Nat.le_of_ble_eq_true rfl) rfl ?_
    change WA _ _ _ _ (List.set _ 1 _) _ _ _
    simp only [List.set_cons_zero, List.set_cons_succ]
    first | refine wa_aload_n (pc := 7) (y := mX6_readEntry) dX6_readEntry_7 rfl ?_ | refine wa_aload_nN (pc := 7) (y := mX6_readEntry) dX6_readEntry_7 rfl ?_ | refine wa_aload_nq (pc := 7) (y := mX6_readEntry) dX6_readEntry_7 rfl ?_
    refine wa_getf (pc := 8) (y := mX6_readEntry) (k := 5) 11 dX6_readEntry_8 mH_o rfl q2654 (Or.inl rfl) (Nat.le_of_ble_eq_true rfl) (by rfl) ?_
    rw [show (TX σ p w E K N).2 11 = Int32.ofNat p from rfl]
    first | refine wa_aload_n (pc := 11) (y := mX6_readEntry) dX6_readEntry_11 rfl ?_ | refine wa_aload_nN (pc := 11) (y := mX6_readEntry) dX6_readEntry_11 rfl ?_ | refine wa_aload_nq (pc := 11) (y := mX6_readEntry) dX6_readEntry_11 rfl ?_
    refine wa_getf (pc := 12) (y := mX6_readEntry) (k := 5) 10 dX6_readEntry_12 mH_o rfl q2653 (Or.inl rfl) (Nat.le_of_ble_eq_true rfl) (by rfl) ?_
    rw [show (TX σ p w E K N).2 10 = Int32.ofNat L from hL]
    refine wa_icmp_ge (pc := 15) 30 dX6_readEntry_15 rfl (fun hb15 => absurd ((iN_le (by omega) (by omega)).mp hb15) (by omega)) (fun hb15 => ?_)
    first | refine wa_aload_n (pc := 18) (y := mX6_readEntry) dX6_readEntry_18 rfl ?_ | refine wa_aload_nN (pc := 18) (y := mX6_readEntry) dX6_readEntry_18 rfl ?_ | refine wa_aload_nq (pc := 18) (y := mX6_readEntry) dX6_readEntry_18 rfl ?_
    refine wa_getf (pc := 19) (y := mX6_readEntry) (k := 5) 9 dX6_readEntry_19 mH_o rfl q2652 (Or.inl rfl) (Nat.le_of_ble_eq_true rfl) (by rfl) ?_
    first | refine wa_aload_n (pc := 22) (y := mX6_readEntry) dX6_readEntry_22 rfl ?_ | refine wa_aload_nN (pc := 22) (y := mX6_readEntry) dX6_readEntry_22 rfl ?_ | refine wa_aload_nq (pc := 22) (y := mX6_readEntry) dX6_readEntry_22 rfl ?_
    refine wa_getf (pc := 23) (y := mX6_readEntry) (k := 5) 11 dX6_readEntry_23 mH_o rfl q2654 (Or.inl rfl) (Nat.le_of_ble_eq_true rfl) (by rfl) ?_
    rw [show (TX σ p w E K N).2 11 = Int32.ofNat p from rfl]
    refine wa_caloadN (pc := 26) (y := mX6_readEntry) dX6_readEntry_26 mH_6 (by omega) ?_
    rw [show (TX σ p w E K N).1 9 p = reK (σ.1 9) L p from (if_pos e).symm]
    refine wa_goto (pc := 27) (y := mX6_readEntry) 32 dX6_readEntry_27 rfl ?_
    refine wa_istore_n (pc := 32) (y := mX6_readEntry) dX6_readEntry_32 (Nat.le_of_ble_eq_true rfl) rfl ?_
    change WA _ _ _ _ (List.set _ 2 _) _ _ _
    simp only [List.set_cons_zero, List.set_cons_succ]
    exact at33
  · refine wa_iconst (pc := 0) (y := mX6_readEntry) (Int32.ofNat 3) dX6_readEntry_0 rfl ?_
    first | refine wa_aload_n (pc := 1) (y := mX6_readEntry) dX6_readEntry_1 rfl ?_ | refine wa_aload_nN (pc := 1) (y := mX6_readEntry) dX6_readEntry_1 rfl ?_ | refine wa_aload_nq (pc := 1) (y := mX6_readEntry) dX6_readEntry_1 rfl ?_
    refine wa_getf (pc := 2) (y := mX6_readEntry) (k := 5) 16 dX6_readEntry_2 mH_o rfl q2659 (Or.inl rfl) (Nat.le_of_ble_eq_true rfl) (by rfl) ?_
    rw [show (TX σ p w E K N).2 16 = Int32.ofNat E from rfl]
    first | with_reducible refine wa_imulN (pc := 5) (y := mX6_readEntry) dX6_readEntry_5 ?_ | refine wa_imul (pc := 5) (y := mX6_readEntry) dX6_readEntry_5 ?_
    refine wa_istore_n (pc := 6) (y := mX6_readEntry) dX6_readEntry_6 (Nat.le_of_ble_eq_true rfl) rfl ?_
    change WA _ _ _ _ (List.set _ 1 _) _ _ _
    simp only [List.set_cons_zero, List.set_cons_succ]
    first | refine wa_aload_n (pc := 7) (y := mX6_readEntry) dX6_readEntry_7 rfl ?_ | refine wa_aload_nN (pc := 7) (y := mX6_readEntry) dX6_readEntry_7 rfl ?_ | refine wa_aload_nq (pc := 7) (y := mX6_readEntry) dX6_readEntry_7 rfl ?_
    refine wa_getf (pc := 8) (y := mX6_readEntry) (k := 5) 11 dX6_readEntry_8 mH_o rfl q2654 (Or.inl rfl) (Nat.le_of_ble_eq_true rfl) (by rfl) ?_
    rw [show (TX σ p w E K N).2 11 = Int32.ofNat p from rfl]
    first | refine wa_aload_n (pc := 11) (y := mX6_readEntry) dX6_readEntry_11 rfl ?_ | refine wa_aload_nN (pc := 11) (y := mX6_readEntry) dX6_readEntry_11 rfl ?_ | refine wa_aload_nq (pc := 11) (y := mX6_readEntry) dX6_readEntry_11 rfl ?_
    refine wa_getf (pc := 12) (y := mX6_readEntry) (k := 5) 10 dX6_readEntry_12 mH_o rfl q2653 (Or.inl rfl) (Nat.le_of_ble_eq_true rfl) (by rfl) ?_
    rw [show (TX σ p w E K N).2 10 = Int32.ofNat L from hL]
    refine wa_icmp_ge (pc := 15) 30 dX6_readEntry_15 rfl (fun hb15 => ?_) (fun hb15 => absurd ((iN_le (by omega) (by omega)).mpr (by omega)) hb15)
    refine wa_bipush (pc := 30) (y := mX6_readEntry) (Int32.ofNat 32) dX6_readEntry_30 rfl ?_
    rw [show Int32.ofNat 32 = reK (σ.1 9) L p from (if_neg e).symm]
    refine wa_istore_n (pc := 32) (y := mX6_readEntry) dX6_readEntry_32 (Nat.le_of_ble_eq_true rfl) rfl ?_
    change WA _ _ _ _ (List.set _ 2 _) _ _ _
    simp only [List.set_cons_zero, List.set_cons_succ]
    exact at33
end MTEXT3
