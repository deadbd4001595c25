/-! ===== CueStackModel: read, the walk ===== -/
section MREAD2
variable {G : GG} {d : Nat} {h : AH} {m : Nat} {f : Nat → Int32} {σ : MS}
theorem rd_loop {L : Nat} {Q : RR → AH → Prop} (hd : 5 ≤ d) (hG : StG G) (hL : σ.2 10 = Int32.ofNat L) (hL6 : L ≤ 60) (hin : ∀ j, j < 60 → u (σ.1 9 j) < 65536) :
    ∀ t (s : RS), rdI L s → (s.2.1 = false → L ≤ s.1 + t) →
    (rdI L (rdG (σ.1 9) L t s) → WA G d mX6_read 44 [.ref m, .retAddr 0] [] (mH h m f (TX σ (rdG (σ.1 9) L t s).1 (rdG (σ.1 9) L t s).2.1 (rdG (σ.1 9) L t s).2.2.1 (rdG (σ.1 9) L t s).2.2.2.1 (rdG (σ.1 9) L t s).2.2.2.2)) Q) →
    WA G d mX6_read 19 [.ref m, .retAddr 0] [] (mH h m f (TX σ s.1 s.2.1 s.2.2.1 s.2.2.2.1 s.2.2.2.2)) Q := by
  intro t
  induction t with
  | zero =>
    intro s hs ht K
    have K := K hs
    replace K : WA G d mX6_read 44 [.ref m, .retAddr 0] [] (mH h m f (TX σ s.1 s.2.1 s.2.2.1 s.2.2.2.1 s.2.2.2.2)) Q := K
    have hs1 := hs.1
    cases ew : s.2.1 with
    | true =>
      rw [ew] at K
      first | refine wa_aload_n (pc := 19) (y := mX6_read) dX6_read_19 rfl ?_ | refine wa_aload_nN (pc := 19) (y := mX6_read) dX6_read_19 rfl ?_ | refine wa_aload_nq (pc := 19) (y := mX6_read) dX6_read_19 rfl ?_
      refine wa_getf (pc := 20) (y := mX6_read) (k := 5) 12 dX6_read_20 mH_o rfl q2655 (Or.inl rfl) (Nat.le_of_ble_eq_true rfl) (by rfl) ?_
      rw [show ∀ a c e k, (TX σ a true c e k).2 12 = bI true from fun _ _ _ _ => rfl]
      refine wa_if_ne (pc := 23) 44 dX6_read_23 rfl (fun hb23 => ?_) (fun hb23 => absurd hb23 (by decide))
      exact K
    | false =>
      rw [ew] at K
      have ht : L ≤ s.1 := ht ew
      first | refine wa_aload_n (pc := 19) (y := mX6_read) dX6_read_19 rfl ?_ | refine wa_aload_nN (pc := 19) (y := mX6_read) dX6_read_19 rfl ?_ | refine wa_aload_nq (pc := 19) (y := mX6_read) dX6_read_19 rfl ?_
      refine wa_getf (pc := 20) (y := mX6_read) (k := 5) 12 dX6_read_20 mH_o rfl q2655 (Or.inl rfl) (Nat.le_of_ble_eq_true rfl) (by rfl) ?_
      rw [show ∀ a c e k, (TX σ a false c e k).2 12 = bI false from fun _ _ _ _ => rfl]
      refine wa_if_ne (pc := 23) 44 dX6_read_23 rfl (fun hb23 => absurd rfl hb23) (fun hb23 => ?_)
      first | refine wa_aload_n (pc := 26) (y := mX6_read) dX6_read_26 rfl ?_ | refine wa_aload_nN (pc := 26) (y := mX6_read) dX6_read_26 rfl ?_ | refine wa_aload_nq (pc := 26) (y := mX6_read) dX6_read_26 rfl ?_
      refine wa_getf (pc := 27) (y := mX6_read) (k := 5) 11 dX6_read_27 mH_o rfl q2654 (Or.inl rfl) (Nat.le_of_ble_eq_true rfl) (by rfl) ?_
      rw [show ∀ b c e k, (TX σ s.1 b c e k).2 11 = Int32.ofNat s.1 from fun _ _ _ _ => rfl]
      first | refine wa_aload_n (pc := 30) (y := mX6_read) dX6_read_30 rfl ?_ | refine wa_aload_nN (pc := 30) (y := mX6_read) dX6_read_30 rfl ?_ | refine wa_aload_nq (pc := 30) (y := mX6_read) dX6_read_30 rfl ?_
      refine wa_getf (pc := 31) (y := mX6_read) (k := 5) 10 dX6_read_31 mH_o rfl q2653 (Or.inl rfl) (Nat.le_of_ble_eq_true rfl) (by rfl) ?_
      rw [show ∀ a b c e k, (TX σ a b c e k).2 10 = Int32.ofNat L from fun _ _ _ _ _ => hL]
      refine wa_icmp_ge (pc := 34) 44 dX6_read_34 rfl (fun hb34 => ?_) (fun hb34 => absurd ((iN_le (by omega) (by omega)).mpr (by omega)) hb34)
      exact K
  | succ t ih =>
    intro s hs ht K
    have hs1 := hs.1
    cases ew : s.2.1 with
    | true =>
      rw [show rdG (σ.1 9) L (t + 1) s = s from if_neg (fun q => by rw [ew] at q; exact absurd q.1 (by decide))] at K
      have K := K hs
      rw [ew] at K
      first | refine wa_aload_n (pc := 19) (y := mX6_read) dX6_read_19 rfl ?_ | refine wa_aload_nN (pc := 19) (y := mX6_read) dX6_read_19 rfl ?_ | refine wa_aload_nq (pc := 19) (y := mX6_read) dX6_read_19 rfl ?_
      refine wa_getf (pc := 20) (y := mX6_read) (k := 5) 12 dX6_read_20 mH_o rfl q2655 (Or.inl rfl) (Nat.le_of_ble_eq_true rfl) (by rfl) ?_
      rw [show ∀ a c e k, (TX σ a true c e k).2 12 = bI true from fun _ _ _ _ => rfl]
      refine wa_if_ne (pc := 23) 44 dX6_read_23 rfl (fun hb23 => ?_) (fun hb23 => absurd hb23 (by decide))
      exact K
    | false =>
      have h4 := hs.2.2.2 ew
      by_cases e : s.1 < L
      · rw [show rdG (σ.1 9) L (t + 1) s = rdG (σ.1 9) L t (rdS (σ.1 9) L s) from if_pos ⟨ew, e⟩] at K
        have hr := rdS_ok (inp := σ.1 9) hL6 hs1 ew (Or.inr e) h4
        have hge := (reF_ok (inp := σ.1 9) (E := s.2.2.1) (N := s.2.2.2.2) hs1).2
        have nx := ih (rdS (σ.1 9) L s) hr (fun q => by
          have a := (hge q).1
          have b := ht ew
          show L ≤ (reF (σ.1 9) L s.1 s.2.2.1 s.2.2.2.2).1 + t
          omega) K
        have re := @s_X6_readEntry G (d - 1) h m f σ s.1 s.2.2.1 L false s.2.2.2.1 s.2.2.2.2 (by omega) hG hL hL6 hs1 (by omega) hin
        first | refine wa_aload_n (pc := 19) (y := mX6_read) dX6_read_19 rfl ?_ | refine wa_aload_nN (pc := 19) (y := mX6_read) dX6_read_19 rfl ?_ | refine wa_aload_nq (pc := 19) (y := mX6_read) dX6_read_19 rfl ?_
        refine wa_getf (pc := 20) (y := mX6_read) (k := 5) 12 dX6_read_20 mH_o rfl q2655 (Or.inl rfl) (Nat.le_of_ble_eq_true rfl) (by rfl) ?_
        rw [show ∀ a c e k, (TX σ a false c e k).2 12 = bI false from fun _ _ _ _ => rfl]
        refine wa_if_ne (pc := 23) 44 dX6_read_23 rfl (fun hb23 => absurd rfl hb23) (fun hb23 => ?_)
        first | refine wa_aload_n (pc := 26) (y := mX6_read) dX6_read_26 rfl ?_ | refine wa_aload_nN (pc := 26) (y := mX6_read) dX6_read_26 rfl ?_ | refine wa_aload_nq (pc := 26) (y := mX6_read) dX6_read_26 rfl ?_
        refine wa_getf (pc := 27) (y := mX6_read) (k := 5) 11 dX6_read_27 mH_o rfl q2654 (Or.inl rfl) (Nat.le_of_ble_eq_true rfl) (by rfl) ?_
        rw [show ∀ b c e k, (TX σ s.1 b c e k).2 11 = Int32.ofNat s.1 from fun _ _ _ _ => rfl]
        first | refine wa_aload_n (pc := 30) (y := mX6_read) dX6_read_30 rfl ?_ | refine wa_aload_nN (pc := 30) (y := mX6_read) dX6_read_30 rfl ?_ | refine wa_aload_nq (pc := 30) (y := mX6_read) dX6_read_30 rfl ?_
        refine wa_getf (pc := 31) (y := mX6_read) (k := 5) 10 dX6_read_31 mH_o rfl q2653 (Or.inl rfl) (Nat.le_of_ble_eq_true rfl) (by rfl) ?_
        rw [show ∀ a b c e k, (TX σ a b c e k).2 10 = Int32.ofNat L from fun _ _ _ _ _ => hL]
        refine wa_icmp_ge (pc := 34) 44 dX6_read_34 rfl (fun hb34 => absurd ((iN_le (by omega) (by omega)).mp hb34) (by omega)) (fun hb34 => ?_)
        first | refine wa_aload_n (pc := 37) (y := mX6_read) dX6_read_37 rfl ?_ | refine wa_aload_nN (pc := 37) (y := mX6_read) dX6_read_37 rfl ?_ | refine wa_aload_nq (pc := 37) (y := mX6_read) dX6_read_37 rfl ?_
        refine wa_callV (pc := 38) re dX6_read_38 okX6_readEntry q2999 q3001 qs76 mH_o rfl rfl rfl (Nat.le_of_ble_eq_true rfl) (Nat.le_of_ble_eq_true rfl) (by omega) ?_
        rintro _ _ - - ⟨rfl, rfl⟩
        refine aft_0 (pc2 := 41) ?_ rfl
        refine wa_goto (pc := 41) (y := mX6_read) 19 dX6_read_41 rfl ?_
        exact nx
      · rw [show rdG (σ.1 9) L (t + 1) s = s from if_neg (fun q => e q.2)] at K
        have K := K hs
        rw [ew] at K
        first | refine wa_aload_n (pc := 19) (y := mX6_read) dX6_read_19 rfl ?_ | refine wa_aload_nN (pc := 19) (y := mX6_read) dX6_read_19 rfl ?_ | refine wa_aload_nq (pc := 19) (y := mX6_read) dX6_read_19 rfl ?_
        refine wa_getf (pc := 20) (y := mX6_read) (k := 5) 12 dX6_read_20 mH_o rfl q2655 (Or.inl rfl) (Nat.le_of_ble_eq_true rfl) (by rfl) ?_
        rw [show ∀ a c e k, (TX σ a false c e k).2 12 = bI false from fun _ _ _ _ => rfl]
        refine wa_if_ne (pc := 23) 44 dX6_read_23 rfl (fun hb23 => absurd rfl hb23) (fun hb23 => ?_)
        first | refine wa_aload_n (pc := 26) (y := mX6_read) dX6_read_26 rfl ?_ | refine wa_aload_nN (pc := 26) (y := mX6_read) dX6_read_26 rfl ?_ | refine wa_aload_nq (pc := 26) (y := mX6_read) dX6_read_26 rfl ?_
        refine wa_getf (pc := 27) (y := mX6_read) (k := 5) 11 dX6_read_27 mH_o rfl q2654 (Or.inl rfl) (Nat.le_of_ble_eq_true rfl) (by rfl) ?_
        rw [show ∀ b c e k, (TX σ s.1 b c e k).2 11 = Int32.ofNat s.1 from fun _ _ _ _ => rfl]
        first | refine wa_aload_n (pc := 30) (y := mX6_read) dX6_read_30 rfl ?_ | refine wa_aload_nN (pc := 30) (y := mX6_read) dX6_read_30 rfl ?_ | refine wa_aload_nq (pc := 30) (y := mX6_read) dX6_read_30 rfl ?_
        refine wa_getf (pc := 31) (y := mX6_read) (k := 5) 10 dX6_read_31 mH_o rfl q2653 (Or.inl rfl) (Nat.le_of_ble_eq_true rfl) (by rfl) ?_
        rw [show ∀ a b c e k, (TX σ a b c e k).2 10 = Int32.ofNat L from fun _ _ _ _ _ => hL]
        refine wa_icmp_ge (pc := 34) 44 dX6_read_34 rfl (fun hb34 => ?_) (fun hb34 => absurd ((iN_le (by omega) (by omega)).mpr (by omega)) hb34)
        exact K
theorem ex_loop {E : Nat} {K N : Nat → Int32} {B : Nat → Int32} {Q : RR → AH → Prop} (hd : 7 ≤ d) (hB : Inv B) (hE6 : E ≤ 60) (hk : ∀ j, j < E → sgB (K j) = true) :
    ∀ t k f σ, k + t = E → Inv f → σ.1 14 = K → σ.1 15 = N → σ.1 1 = B → σ.2 16 = Int32.ofNat E → σ.2 7 = Int32.ofNat 0 →
    ((exG K N t k f σ).1 = true → ∀ q, WA G d mX6_read 143 [.ref m, q] [] (mH h m B (mV (exG K N t k f σ).2.2 7 (Int32.ofNat 2))) Q) →
    ((exG K N t k f σ).1 = false → sqK σ (exG K N t k f σ).2.2 → Inv (exG K N t k f σ).2.1 → ∀ q, WA G d mX6_read 143 [.ref m, q] [] (mH h m (exG K N t k f σ).2.1 (exG K N t k f σ).2.2) Q) →
    WA G d mX6_read 93 [.ref m, .int (Int32.ofNat k)] [] (mH h m f σ) Q := by
  intro t
  induction t with
  | zero =>
    intro k f σ hkE hI hK hN hB1 hE h7 k1 k2
    replace hkE : k + 0 = E := hkE
    have kk := k2 rfl sqK.rfl hI
    replace kk : ∀ q, WA G d mX6_read 143 [.ref m, q] [] (mH h m f σ) Q := kk
    refine wa_iload_n (pc := 93) (y := mX6_read) dX6_read_93 rfl ?_
    first | refine wa_aload_n (pc := 94) (y := mX6_read) dX6_read_94 rfl ?_ | refine wa_aload_nN (pc := 94) (y := mX6_read) dX6_read_94 rfl ?_ | refine wa_aload_nq (pc := 94) (y := mX6_read) dX6_read_94 rfl ?_
    refine wa_getf (pc := 95) (y := mX6_read) (k := 5) 16 dX6_read_95 mH_o rfl q2659 (Or.inl rfl) (Nat.le_of_ble_eq_true rfl) (by rfl) ?_
    rw [hE]
    refine wa_icmp_ge (pc := 98) 143 dX6_read_98 rfl (fun hb98 => ?_) (fun hb98 => absurd ((iN_le (by omega) (by omega)).mpr (by omega)) hb98)
    exact kk _
  | succ t ih =>
    intro k f σ hkE hI hK hN hB1 hE h7 k1 k2
    have kp := flE_keep (f := f) (σ := σ) (k := K k) (a := N (3 * k)) (b := N (3 * k + 1)) (lv := N (3 * k + 2))
    have fi := flE_inv (f := f) (σ := σ) (k := K k) (a := N (3 * k)) (b := N (3 * k + 1)) (lv := N (3 * k + 2)) hI (by rw [hB1]; exact hB)
    have fl := @s_X6_fails G (d - 1) h m f σ k (by omega) hI (by omega) (by rw [hK]; exact hk k (by omega))
    rw [hK, hN] at fl
    unfold exG at k1 k2
    generalize flE f σ (K k) (N (3 * k)) (N (3 * k + 1)) (N (3 * k + 2)) = r at k1 k2 kp fi fl
    have x1 : r.2.2.1 1 = B := (kp.1 1 (by omega)).trans hB1
    have x14 : r.2.2.1 14 = K := (kp.1 14 (by omega)).trans hK
    have x15 : r.2.2.1 15 = N := (kp.1 15 (by omega)).trans hN
    have x16 : r.2.2.2 16 = Int32.ofNat E := (kp.2 16 (by omega)).trans hE
    have x7 : r.2.2.2 7 = Int32.ofNat 0 := (kp.2 7 (by omega)).trans h7
    cases er : r.1 with
    | true =>
      rw [er] at fl
      rw [if_pos er] at k1
      have k1 := k1 rfl
      have again : ∀ σ9, σ9 = mV r.2.2 7 (Int32.ofNat 2) → σ9.2 16 = Int32.ofNat E → WA G d mX6_read 93 [.ref m, .int (Int32.ofNat (k + 1))] [] (mH h m B σ9) Q := by
        intro σ9 e9 h16
        have h7' : σ9.2 7 = Int32.ofNat 2 := by rw [e9, mV_s]
        rw [← e9] at k1
        by_cases hl : k + 1 < E
        · refine wa_iload_n (pc := 93) (y := mX6_read) dX6_read_93 rfl ?_
          first | refine wa_aload_n (pc := 94) (y := mX6_read) dX6_read_94 rfl ?_ | refine wa_aload_nN (pc := 94) (y := mX6_read) dX6_read_94 rfl ?_ | refine wa_aload_nq (pc := 94) (y := mX6_read) dX6_read_94 rfl ?_
          refine wa_getf (pc := 95) (y := mX6_read) (k := 5) 16 dX6_read_95 mH_o rfl q2659 (Or.inl rfl) (Nat.le_of_ble_eq_true rfl) (by rfl) ?_
          rw [h16]
          refine wa_icmp_ge (pc := 98) 143 dX6_read_98 rfl (fun hb98 => absurd ((iN_le (by omega) (by omega)).mp hb98) (by omega)) (fun hb98 => ?_)
          first | refine wa_aload_n (pc := 101) (y := mX6_read) dX6_read_101 rfl ?_ | refine wa_aload_nN (pc := 101) (y := mX6_read) dX6_read_101 rfl ?_ | refine wa_aload_nq (pc := 101) (y := mX6_read) dX6_read_101 rfl ?_
          refine wa_getf (pc := 102) (y := mX6_read) (k := 5) 7 dX6_read_102 mH_o rfl q2650 (Or.inl rfl) (Nat.le_of_ble_eq_true rfl) (by rfl) ?_
          rw [h7']
          refine wa_if_ne (pc := 105) 143 dX6_read_105 rfl (fun hb105 => ?_) (fun hb105 => absurd hb105 (by decide))
          exact k1 _
        · refine wa_iload_n (pc := 93) (y := mX6_read) dX6_read_93 rfl ?_
          first | refine wa_aload_n (pc := 94) (y := mX6_read) dX6_read_94 rfl ?_ | refine wa_aload_nN (pc := 94) (y := mX6_read) dX6_read_94 rfl ?_ | refine wa_aload_nq (pc := 94) (y := mX6_read) dX6_read_94 rfl ?_
          refine wa_getf (pc := 95) (y := mX6_read) (k := 5) 16 dX6_read_95 mH_o rfl q2659 (Or.inl rfl) (Nat.le_of_ble_eq_true rfl) (by rfl) ?_
          rw [h16]
          refine wa_icmp_ge (pc := 98) 143 dX6_read_98 rfl (fun hb98 => ?_) (fun hb98 => absurd ((iN_le (by omega) (by omega)).mpr (by omega)) hb98)
          exact k1 _
      refine wa_iload_n (pc := 93) (y := mX6_read) dX6_read_93 rfl ?_
      first | refine wa_aload_n (pc := 94) (y := mX6_read) dX6_read_94 rfl ?_ | refine wa_aload_nN (pc := 94) (y := mX6_read) dX6_read_94 rfl ?_ | refine wa_aload_nq (pc := 94) (y := mX6_read) dX6_read_94 rfl ?_
      refine wa_getf (pc := 95) (y := mX6_read) (k := 5) 16 dX6_read_95 mH_o rfl q2659 (Or.inl rfl) (Nat.le_of_ble_eq_true rfl) (by rfl) ?_
      rw [hE]
      refine wa_icmp_ge (pc := 98) 143 dX6_read_98 rfl (fun hb98 => absurd ((iN_le (by omega) (by omega)).mp hb98) (by omega)) (fun hb98 => ?_)
      first | refine wa_aload_n (pc := 101) (y := mX6_read) dX6_read_101 rfl ?_ | refine wa_aload_nN (pc := 101) (y := mX6_read) dX6_read_101 rfl ?_ | refine wa_aload_nq (pc := 101) (y := mX6_read) dX6_read_101 rfl ?_
      refine wa_getf (pc := 102) (y := mX6_read) (k := 5) 7 dX6_read_102 mH_o rfl q2650 (Or.inl rfl) (Nat.le_of_ble_eq_true rfl) (by rfl) ?_
      rw [h7]
      refine wa_if_ne (pc := 105) 143 dX6_read_105 rfl (fun hb105 => absurd rfl hb105) (fun hb105 => ?_)
      first | refine wa_aload_n (pc := 108) (y := mX6_read) dX6_read_108 rfl ?_ | refine wa_aload_nN (pc := 108) (y := mX6_read) dX6_read_108 rfl ?_ | refine wa_aload_nq (pc := 108) (y := mX6_read) dX6_read_108 rfl ?_
      refine wa_iload_n (pc := 109) (y := mX6_read) dX6_read_109 rfl ?_
      refine wa_callV (pc := 110) fl dX6_read_110 okX6_fails q3064 q3066 qs81 mH_o rfl rfl rfl (Nat.le_of_ble_eq_true rfl) (Nat.le_of_ble_eq_true rfl) (by omega) ?_
      rintro _ _ - - ⟨rfl, rfl⟩
      refine aft_v (pc2 := 113) ?_ rfl
      refine wa_if_eq (pc := 113) 137 dX6_read_113 rfl (fun hb113 => absurd hb113 (by decide)) (fun hb113 => ?_)
      first | refine wa_aload_n (pc := 116) (y := mX6_read) dX6_read_116 rfl ?_ | refine wa_aload_nN (pc := 116) (y := mX6_read) dX6_read_116 rfl ?_ | refine wa_aload_nq (pc := 116) (y := mX6_read) dX6_read_116 rfl ?_
      refine wa_iconst (pc := 117) (y := mX6_read) (Int32.ofNat 2) dX6_read_117 rfl ?_
      refine wa_putf (pc := 118) (y := mX6_read) (k := 5) 7 .int dX6_read_118 mH_o rfl q2650 (Or.inl rfl) (Nat.le_of_ble_eq_true rfl) rfl (by decide +kernel) rfl rfl ?_
      rw [mW_o7]
      first | refine wa_aload_n (pc := 121) (y := mX6_read) dX6_read_121 rfl ?_ | refine wa_aload_nN (pc := 121) (y := mX6_read) dX6_read_121 rfl ?_ | refine wa_aload_nq (pc := 121) (y := mX6_read) dX6_read_121 rfl ?_
      refine wa_getf (pc := 122) (y := mX6_read) (k := 5) 1 dX6_read_122 mH_o rfl q2644 (Or.inl rfl) (Nat.le_of_ble_eq_true rfl) (by rfl) ?_
      refine wa_iconst (pc := 125) (y := mX6_read) (Int32.ofNat 0) dX6_read_125 rfl ?_
      first | refine wa_aload_n (pc := 126) (y := mX6_read) dX6_read_126 rfl ?_ | refine wa_aload_nN (pc := 126) (y := mX6_read) dX6_read_126 rfl ?_ | refine wa_aload_nq (pc := 126) (y := mX6_read) dX6_read_126 rfl ?_
      refine wa_getf (pc := 127) (y := mX6_read) (k := 5) 0 dX6_read_127 mH_o rfl q2643 (Or.inl rfl) (Nat.le_of_ble_eq_true rfl) (by rfl) ?_
      refine wa_iconst (pc := 130) (y := mX6_read) (Int32.ofNat 0) dX6_read_130 rfl ?_
      refine wa_sipush (pc := 131) (y := mX6_read) (Int32.ofNat 462) dX6_read_131 rfl ?_
      refine wa_copyN (pc := 134) dX6_read_134 q2711 q352 q351 q96 mH_2 mH_1 (by omega) (Nat.le_of_ble_eq_true rfl) (by omega) ?_
      rw [mW_1]
      rw [mV_1, x1, mH_cg (g := B) (fun j hj => cpF_all hj)]
      first | with_reducible refine wa_iincN (pc := 137) (y := mX6_read) dX6_read_137 rfl (Nat.le_of_ble_eq_true rfl) rfl ?_ | refine wa_iinc (pc := 137) (y := mX6_read) (1) dX6_read_137 rfl rfl (Nat.le_of_ble_eq_true rfl) rfl ?_
      simp only [List.set_cons_zero, List.set_cons_succ]
      refine wa_goto (pc := 140) (y := mX6_read) 93 dX6_read_140 rfl ?_
      exact again _ rfl x16
    | false =>
      rw [er] at fl
      rw [if_neg (by rw [er]; decide)] at k1 k2
      have nx := ih (k + 1) r.2.1 r.2.2 (by omega) fi x14 x15 x1 x16 x7 k1 (fun a b => k2 a ⟨fun i hi => (b.1 i hi).trans (kp.1 i hi), fun i hi => (b.2 i hi).trans (kp.2 i hi)⟩)
      refine wa_iload_n (pc := 93) (y := mX6_read) dX6_read_93 rfl ?_
      first | refine wa_aload_n (pc := 94) (y := mX6_read) dX6_read_94 rfl ?_ | refine wa_aload_nN (pc := 94) (y := mX6_read) dX6_read_94 rfl ?_ | refine wa_aload_nq (pc := 94) (y := mX6_read) dX6_read_94 rfl ?_
      refine wa_getf (pc := 95) (y := mX6_read) (k := 5) 16 dX6_read_95 mH_o rfl q2659 (Or.inl rfl) (Nat.le_of_ble_eq_true rfl) (by rfl) ?_
      rw [hE]
      refine wa_icmp_ge (pc := 98) 143 dX6_read_98 rfl (fun hb98 => absurd ((iN_le (by omega) (by omega)).mp hb98) (by omega)) (fun hb98 => ?_)
      first | refine wa_aload_n (pc := 101) (y := mX6_read) dX6_read_101 rfl ?_ | refine wa_aload_nN (pc := 101) (y := mX6_read) dX6_read_101 rfl ?_ | refine wa_aload_nq (pc := 101) (y := mX6_read) dX6_read_101 rfl ?_
      refine wa_getf (pc := 102) (y := mX6_read) (k := 5) 7 dX6_read_102 mH_o rfl q2650 (Or.inl rfl) (Nat.le_of_ble_eq_true rfl) (by rfl) ?_
      rw [h7]
      refine wa_if_ne (pc := 105) 143 dX6_read_105 rfl (fun hb105 => absurd rfl hb105) (fun hb105 => ?_)
      first | refine wa_aload_n (pc := 108) (y := mX6_read) dX6_read_108 rfl ?_ | refine wa_aload_nN (pc := 108) (y := mX6_read) dX6_read_108 rfl ?_ | refine wa_aload_nq (pc := 108) (y := mX6_read) dX6_read_108 rfl ?_
      refine wa_iload_n (pc := 109) (y := mX6_read) dX6_read_109 rfl ?_
      refine wa_callV (pc := 110) fl dX6_read_110 okX6_fails q3064 q3066 qs81 mH_o rfl rfl rfl (Nat.le_of_ble_eq_true rfl) (Nat.le_of_ble_eq_true rfl) (by omega) ?_
      rintro _ _ - - ⟨rfl, rfl⟩
      refine aft_v (pc2 := 113) ?_ rfl
      refine wa_if_eq (pc := 113) 137 dX6_read_113 rfl (fun hb113 => ?_) (fun hb113 => absurd rfl hb113)
      first | with_reducible refine wa_iincN (pc := 137) (y := mX6_read) dX6_read_137 rfl (Nat.le_of_ble_eq_true rfl) rfl ?_ | refine wa_iinc (pc := 137) (y := mX6_read) (1) dX6_read_137 rfl rfl (Nat.le_of_ble_eq_true rfl) rfl ?_
      simp only [List.set_cons_zero, List.set_cons_succ]
      refine wa_goto (pc := 140) (y := mX6_read) 93 dX6_read_140 rfl ?_
      exact nx
theorem rdG_ok {inp : Nat → Int32} {L : Nat} (hL : L ≤ 60) : ∀ {t : Nat} {s : RS}, rdI L s → rdI L (rdG inp L t s)
  | 0, _, h => h
  | t + 1, s, h => by
    unfold rdG
    split
    · rename_i e
      exact rdG_ok hL (rdS_ok hL h.1 e.1 (Or.inr e.2) (h.2.2.2 e.1))
    · exact h
theorem s_X6_read (hd : 8 ≤ d) (hG : StG G) (hI : Inv f) (hL : u (σ.2 10) ≤ 60) (hin : ∀ j, j < 60 → u (σ.1 9 j) < 65536) (hpm : u (σ.2 5) ≤ 6) : MA G d mX6_read [.ref m] (mH h m f σ) (fun r h' => r = .inl (some (.int (O_read f σ).2.1)) ∧ h' = mH h m (O_read f σ).2.2.1 (O_read f σ).2.2.2) := by
  show WA _ _ _ 0 [.ref m, .retAddr 0] [] _ _
  have hL2 : σ.2 10 = Int32.ofNat (u (σ.2 10)) := (u_self _).symm
  unfold O_read rdA
  generalize u (σ.2 10) = L at hL hL2 ⊢
  have h0 : rdI L (rdS (σ.1 9) L (0, false, 0, σ.1 14, σ.1 15)) := rdS_ok hL (Nat.zero_le _) rfl (Or.inl rfl) ⟨Nat.le_refl _, fun j hj => absurd hj (Nat.not_lt_zero _)⟩
  have at44 : ∀ s : RS, rdI L s → WA G d mX6_read 44 [.ref m, .retAddr 0] [] (mH h m f (TX σ s.1 s.2.1 s.2.2.1 s.2.2.2.1 s.2.2.2.2)) (fun r h' => r = .inl (some (.int (O_readS f σ s).2.1)) ∧ h' = mH h m (O_readS f σ s).2.2.1 (O_readS f σ s).2.2.2) := by
    intro s hs
    have hs1 := hs.1
    have hE := hs.2.2.1
    have hE0 := hs.2.1
    unfold O_readS
    cases ew : s.2.1 with
    | true =>
      rw [if_pos rfl]
      have em : rdM f σ s = mA (mV (mV (mV (TX σ s.1 true s.2.2.1 s.2.2.2.1 s.2.2.2.2) 10 (Int32.ofNat 0)) 13 (Int32.ofNat s.1)) 7 (Int32.ofNat 1)) 1 f := by unfold rdM; rw [ew]; rfl
      rw [em]
      first | refine wa_aload_n (pc := 44) (y := mX6_read) dX6_read_44 rfl ?_ | refine wa_aload_nN (pc := 44) (y := mX6_read) dX6_read_44 rfl ?_ | refine wa_aload_nq (pc := 44) (y := mX6_read) dX6_read_44 rfl ?_
      refine wa_iconst (pc := 45) (y := mX6_read) (Int32.ofNat 0) dX6_read_45 rfl ?_
      refine wa_putf (pc := 46) (y := mX6_read) (k := 5) 10 .int dX6_read_46 mH_o rfl q2653 (Or.inl rfl) (Nat.le_of_ble_eq_true rfl) rfl (by decide +kernel) rfl rfl ?_
      rw [mW_o10]
      first | refine wa_aload_n (pc := 49) (y := mX6_read) dX6_read_49 rfl ?_ | refine wa_aload_nN (pc := 49) (y := mX6_read) dX6_read_49 rfl ?_ | refine wa_aload_nq (pc := 49) (y := mX6_read) dX6_read_49 rfl ?_
      first | refine wa_aload_n (pc := 50) (y := mX6_read) dX6_read_50 rfl ?_ | refine wa_aload_nN (pc := 50) (y := mX6_read) dX6_read_50 rfl ?_ | refine wa_aload_nq (pc := 50) (y := mX6_read) dX6_read_50 rfl ?_
      refine wa_getf (pc := 51) (y := mX6_read) (k := 5) 12 dX6_read_51 mH_o rfl q2655 (Or.inl rfl) (Nat.le_of_ble_eq_true rfl) (by rfl) ?_
      rw [show ∀ a c e k, (mV (TX σ a true c e k) 10 (Int32.ofNat 0)).2 12 = bI true from fun _ _ _ _ => rfl]
      refine wa_if_eq (pc := 54) 64 dX6_read_54 rfl (fun hb54 => absurd hb54 (by decide)) (fun hb54 => ?_)
      first | refine wa_aload_n (pc := 57) (y := mX6_read) dX6_read_57 rfl ?_ | refine wa_aload_nN (pc := 57) (y := mX6_read) dX6_read_57 rfl ?_ | refine wa_aload_nq (pc := 57) (y := mX6_read) dX6_read_57 rfl ?_
      refine wa_getf (pc := 58) (y := mX6_read) (k := 5) 11 dX6_read_58 mH_o rfl q2654 (Or.inl rfl) (Nat.le_of_ble_eq_true rfl) (by rfl) ?_
      rw [show ∀ b c e k, (mV (TX σ s.1 b c e k) 10 (Int32.ofNat 0)).2 11 = Int32.ofNat s.1 from fun _ _ _ _ => rfl]
      refine wa_goto (pc := 61) (y := mX6_read) 68 dX6_read_61 rfl ?_
      refine wa_putf (pc := 68) (y := mX6_read) (k := 5) 13 .int dX6_read_68 mH_o rfl q2656 (Or.inl rfl) (Nat.le_of_ble_eq_true rfl) rfl (by decide +kernel) rfl rfl ?_
      rw [mW_o13]
      first | refine wa_aload_n (pc := 71) (y := mX6_read) dX6_read_71 rfl ?_ | refine wa_aload_nN (pc := 71) (y := mX6_read) dX6_read_71 rfl ?_ | refine wa_aload_nq (pc := 71) (y := mX6_read) dX6_read_71 rfl ?_
      first | refine wa_aload_n (pc := 72) (y := mX6_read) dX6_read_72 rfl ?_ | refine wa_aload_nN (pc := 72) (y := mX6_read) dX6_read_72 rfl ?_ | refine wa_aload_nq (pc := 72) (y := mX6_read) dX6_read_72 rfl ?_
      refine wa_getf (pc := 73) (y := mX6_read) (k := 5) 12 dX6_read_73 mH_o rfl q2655 (Or.inl rfl) (Nat.le_of_ble_eq_true rfl) (by rfl) ?_
      rw [show ∀ a c e k v, (mV (mV (TX σ a true c e k) 10 (Int32.ofNat 0)) 13 v).2 12 = bI true from fun _ _ _ _ _ => rfl]
      refine wa_if_eq (pc := 76) 83 dX6_read_76 rfl (fun hb76 => absurd hb76 (by decide)) (fun hb76 => ?_)
      refine wa_iconst (pc := 79) (y := mX6_read) (Int32.ofNat 1) dX6_read_79 rfl ?_
      refine wa_goto (pc := 80) (y := mX6_read) 84 dX6_read_80 rfl ?_
      refine wa_putf (pc := 84) (y := mX6_read) (k := 5) 7 .int dX6_read_84 mH_o rfl q2650 (Or.inl rfl) (Nat.le_of_ble_eq_true rfl) rfl (by decide +kernel) rfl rfl ?_
      rw [mW_o7]
      first | refine wa_aload_n (pc := 87) (y := mX6_read) dX6_read_87 rfl ?_ | refine wa_aload_nN (pc := 87) (y := mX6_read) dX6_read_87 rfl ?_ | refine wa_aload_nq (pc := 87) (y := mX6_read) dX6_read_87 rfl ?_
      refine wa_callV (pc := 88) (s_X6_keepState (d := d - 1) (by omega)) dX6_read_88 okX6_keepState q2707 q2709 qs39 mH_o rfl rfl rfl (Nat.le_of_ble_eq_true rfl) (Nat.le_of_ble_eq_true rfl) (by omega) ?_
      rintro _ _ - - ⟨rfl, rfl⟩
      refine aft_0 (pc2 := 91) ?_ rfl
      refine wa_iconst (pc := 91) (y := mX6_read) (Int32.ofNat 0) dX6_read_91 rfl ?_
      refine wa_istore_n (pc := 92) (y := mX6_read) dX6_read_92 (Nat.le_of_ble_eq_true rfl) rfl ?_
      change WA _ _ _ _ (List.set _ 1 _) _ _ _
      simp only [List.set_cons_zero, List.set_cons_succ]
      refine wa_iload_n (pc := 93) (y := mX6_read) dX6_read_93 rfl ?_
      first | refine wa_aload_n (pc := 94) (y := mX6_read) dX6_read_94 rfl ?_ | refine wa_aload_nN (pc := 94) (y := mX6_read) dX6_read_94 rfl ?_ | refine wa_aload_nq (pc := 94) (y := mX6_read) dX6_read_94 rfl ?_
      refine wa_getf (pc := 95) (y := mX6_read) (k := 5) 16 dX6_read_95 mH_o rfl q2659 (Or.inl rfl) (Nat.le_of_ble_eq_true rfl) (by rfl) ?_
      rw [show ∀ a b e k v v2, (mA (mV (mV (mV (TX σ a b s.2.2.1 e k) 10 (Int32.ofNat 0)) 13 v) 7 v2) 1 f).2 16 = Int32.ofNat s.2.2.1 from fun _ _ _ _ _ _ => rfl]
      refine wa_icmp_ge (pc := 98) 143 dX6_read_98 rfl (fun hb98 => absurd ((iN_le (by omega) (by omega)).mp hb98) (by omega)) (fun hb98 => ?_)
      first | refine wa_aload_n (pc := 101) (y := mX6_read) dX6_read_101 rfl ?_ | refine wa_aload_nN (pc := 101) (y := mX6_read) dX6_read_101 rfl ?_ | refine wa_aload_nq (pc := 101) (y := mX6_read) dX6_read_101 rfl ?_
      refine wa_getf (pc := 102) (y := mX6_read) (k := 5) 7 dX6_read_102 mH_o rfl q2650 (Or.inl rfl) (Nat.le_of_ble_eq_true rfl) (by rfl) ?_
      rw [show ∀ σ9, (mA (mV σ9 7 (Int32.ofNat 1)) 1 f).2 7 = Int32.ofNat 1 from fun _ => rfl]
      refine wa_if_ne (pc := 105) 143 dX6_read_105 rfl (fun hb105 => ?_) (fun hb105 => absurd hb105 (by decide))
      first | refine wa_aload_n (pc := 143) (y := mX6_read) dX6_read_143 rfl ?_ | refine wa_aload_nN (pc := 143) (y := mX6_read) dX6_read_143 rfl ?_ | refine wa_aload_nq (pc := 143) (y := mX6_read) dX6_read_143 rfl ?_
      refine wa_getf (pc := 144) (y := mX6_read) (k := 5) 7 dX6_read_144 mH_o rfl q2650 (Or.inl rfl) (Nat.le_of_ble_eq_true rfl) (by rfl) ?_
      rw [show ∀ σ9, (mA (mV σ9 7 (Int32.ofNat 1)) 1 f).2 7 = Int32.ofNat 1 from fun _ => rfl]
      refine wa_if_le (pc := 147) 152 dX6_read_147 rfl (fun hb147 => absurd hb147 (by decide)) (fun hb147 => ?_)
      refine wa_iconst (pc := 150) (y := mX6_read) (Int32.ofNat 0) dX6_read_150 rfl ?_
      exact wa_ireturn (pc := 151) (y := mX6_read) .int dX6_read_151 rfl rfl ⟨rfl, rfl⟩
    | false =>
      have h4 := hs.2.2.2 ew
      rw [if_neg (by decide)]
      have em : rdM f σ s = mA (mV (mV (mV (TX σ s.1 false s.2.2.1 s.2.2.2.1 s.2.2.2.2) 10 (Int32.ofNat 0)) 13 (σ.2 13)) 7 (Int32.ofNat 0)) 1 f := by unfold rdM; rw [ew]; rfl
      have at93 : WA G d mX6_read 93 [.ref m, .int (Int32.ofNat 0)] [] (mH h m f (rdM f σ s)) (fun r h' => r = .inl (some (.int (if (exG s.2.2.2.1 s.2.2.2.2 s.2.2.1 0 f (rdM f σ s)).1 then ((2, 0, f, mV (exG s.2.2.2.1 s.2.2.2.2 s.2.2.1 0 f (rdM f σ s)).2.2 7 (Int32.ofNat 2)) : OO) else (0, Int32.ofNat s.2.2.1, (exG s.2.2.2.1 s.2.2.2.2 s.2.2.1 0 f (rdM f σ s)).2.1, chg (exG s.2.2.2.1 s.2.2.2.2 s.2.2.1 0 f (rdM f σ s)).2.2)).2.1)) ∧ h' = mH h m (if (exG s.2.2.2.1 s.2.2.2.2 s.2.2.1 0 f (rdM f σ s)).1 then ((2, 0, f, mV (exG s.2.2.2.1 s.2.2.2.2 s.2.2.1 0 f (rdM f σ s)).2.2 7 (Int32.ofNat 2)) : OO) else (0, Int32.ofNat s.2.2.1, (exG s.2.2.2.1 s.2.2.2.2 s.2.2.1 0 f (rdM f σ s)).2.1, chg (exG s.2.2.2.1 s.2.2.2.2 s.2.2.1 0 f (rdM f σ s)).2.2)).2.2.1 (if (exG s.2.2.2.1 s.2.2.2.2 s.2.2.1 0 f (rdM f σ s)).1 then ((2, 0, f, mV (exG s.2.2.2.1 s.2.2.2.2 s.2.2.1 0 f (rdM f σ s)).2.2 7 (Int32.ofNat 2)) : OO) else (0, Int32.ofNat s.2.2.1, (exG s.2.2.2.1 s.2.2.2.2 s.2.2.1 0 f (rdM f σ s)).2.1, chg (exG s.2.2.2.1 s.2.2.2.2 s.2.2.1 0 f (rdM f σ s)).2.2)).2.2.2) := by
        have k7 : (rdM f σ s).2 7 = Int32.ofNat 0 := by rw [em]; rfl
        have k16 : (rdM f σ s).2 16 = Int32.ofNat s.2.2.1 := by rw [em]; rfl
        have k5 : (rdM f σ s).2 5 = σ.2 5 := by rw [em]; rfl
        refine ex_loop (E := s.2.2.1) (K := s.2.2.2.1) (N := s.2.2.2.2) (B := f) (by omega) hI hE h4.2 s.2.2.1 0 f (rdM f σ s) (Nat.zero_add _) hI (by rw [em]; rfl) (by rw [em]; rfl) (by rw [em]; rfl) k16 k7 ?_ ?_
        · intro ex q
          rw [if_pos ex]
          dsimp only
          first | refine wa_aload_n (pc := 143) (y := mX6_read) dX6_read_143 rfl ?_ | refine wa_aload_nN (pc := 143) (y := mX6_read) dX6_read_143 rfl ?_ | refine wa_aload_nq (pc := 143) (y := mX6_read) dX6_read_143 rfl ?_
          refine wa_getf (pc := 144) (y := mX6_read) (k := 5) 7 dX6_read_144 mH_o rfl q2650 (Or.inl rfl) (Nat.le_of_ble_eq_true rfl) (by rfl) ?_
          rw [mV_s]
          refine wa_if_le (pc := 147) 152 dX6_read_147 rfl (fun hb147 => absurd hb147 (by decide)) (fun hb147 => ?_)
          refine wa_iconst (pc := 150) (y := mX6_read) (Int32.ofNat 0) dX6_read_150 rfl ?_
          exact wa_ireturn (pc := 151) (y := mX6_read) .int dX6_read_151 rfl rfl ⟨rfl, rfl⟩
        · intro ex kp kI q
          rw [if_neg (by rw [ex]; decide)]
          dsimp only
          generalize exG s.2.2.2.1 s.2.2.2.2 s.2.2.1 0 f (rdM f σ s) = x at kp kI ⊢
          have y7 : x.2.2.2 7 = Int32.ofNat 0 := (kp.2 7 (by omega)).trans k7
          have y16 : x.2.2.2 16 = Int32.ofNat s.2.2.1 := (kp.2 16 (by omega)).trans k16
          have y5 : x.2.2.2 5 = σ.2 5 := (kp.2 5 (by omega)).trans k5
          first | refine wa_aload_n (pc := 143) (y := mX6_read) dX6_read_143 rfl ?_ | refine wa_aload_nN (pc := 143) (y := mX6_read) dX6_read_143 rfl ?_ | refine wa_aload_nq (pc := 143) (y := mX6_read) dX6_read_143 rfl ?_
          refine wa_getf (pc := 144) (y := mX6_read) (k := 5) 7 dX6_read_144 mH_o rfl q2650 (Or.inl rfl) (Nat.le_of_ble_eq_true rfl) (by rfl) ?_
          rw [y7]
          refine wa_if_le (pc := 147) 152 dX6_read_147 rfl (fun hb147 => ?_) (fun hb147 => absurd (by decide) hb147)
          first | refine wa_aload_n (pc := 152) (y := mX6_read) dX6_read_152 rfl ?_ | refine wa_aload_nN (pc := 152) (y := mX6_read) dX6_read_152 rfl ?_ | refine wa_aload_nq (pc := 152) (y := mX6_read) dX6_read_152 rfl ?_
          refine wa_callV (pc := 153) (s_X6_change (d := d - 1) (by omega) (by rw [y5]; exact hpm)) dX6_read_153 okX6_change q2730 q2732 qs43 mH_o rfl rfl rfl (Nat.le_of_ble_eq_true rfl) (Nat.le_of_ble_eq_true rfl) (by omega) ?_
          rintro _ _ - - ⟨rfl, rfl⟩
          refine aft_0 (pc2 := 156) ?_ rfl
          first | refine wa_aload_n (pc := 156) (y := mX6_read) dX6_read_156 rfl ?_ | refine wa_aload_nN (pc := 156) (y := mX6_read) dX6_read_156 rfl ?_ | refine wa_aload_nq (pc := 156) (y := mX6_read) dX6_read_156 rfl ?_
          refine wa_getf (pc := 157) (y := mX6_read) (k := 5) 16 dX6_read_157 mH_o rfl q2659 (Or.inl rfl) (Nat.le_of_ble_eq_true rfl) (by rfl) ?_
          rw [show (chg x.2.2).2 16 = Int32.ofNat s.2.2.1 from y16]
          exact wa_ireturn (pc := 160) (y := mX6_read) .int dX6_read_160 rfl rfl ⟨rfl, rfl⟩
      rw [em] at at93
      rw [em]
      first | refine wa_aload_n (pc := 44) (y := mX6_read) dX6_read_44 rfl ?_ | refine wa_aload_nN (pc := 44) (y := mX6_read) dX6_read_44 rfl ?_ | refine wa_aload_nq (pc := 44) (y := mX6_read) dX6_read_44 rfl ?_
      refine wa_iconst (pc := 45) (y := mX6_read) (Int32.ofNat 0) dX6_read_45 rfl ?_
      refine wa_putf (pc := 46) (y := mX6_read) (k := 5) 10 .int dX6_read_46 mH_o rfl q2653 (Or.inl rfl) (Nat.le_of_ble_eq_true rfl) rfl (by decide +kernel) rfl rfl ?_
      rw [mW_o10]
      first | refine wa_aload_n (pc := 49) (y := mX6_read) dX6_read_49 rfl ?_ | refine wa_aload_nN (pc := 49) (y := mX6_read) dX6_read_49 rfl ?_ | refine wa_aload_nq (pc := 49) (y := mX6_read) dX6_read_49 rfl ?_
      first | refine wa_aload_n (pc := 50) (y := mX6_read) dX6_read_50 rfl ?_ | refine wa_aload_nN (pc := 50) (y := mX6_read) dX6_read_50 rfl ?_ | refine wa_aload_nq (pc := 50) (y := mX6_read) dX6_read_50 rfl ?_
      refine wa_getf (pc := 51) (y := mX6_read) (k := 5) 12 dX6_read_51 mH_o rfl q2655 (Or.inl rfl) (Nat.le_of_ble_eq_true rfl) (by rfl) ?_
      rw [show ∀ a c e k, (mV (TX σ a false c e k) 10 (Int32.ofNat 0)).2 12 = bI false from fun _ _ _ _ => rfl]
      refine wa_if_eq (pc := 54) 64 dX6_read_54 rfl (fun hb54 => ?_) (fun hb54 => absurd rfl hb54)
      first | refine wa_aload_n (pc := 64) (y := mX6_read) dX6_read_64 rfl ?_ | refine wa_aload_nN (pc := 64) (y := mX6_read) dX6_read_64 rfl ?_ | refine wa_aload_nq (pc := 64) (y := mX6_read) dX6_read_64 rfl ?_
      refine wa_getf (pc := 65) (y := mX6_read) (k := 5) 13 dX6_read_65 mH_o rfl q2656 (Or.inl rfl) (Nat.le_of_ble_eq_true rfl) (by rfl) ?_
      rw [show ∀ a b c e k, (mV (TX σ a b c e k) 10 (Int32.ofNat 0)).2 13 = σ.2 13 from fun _ _ _ _ _ => rfl]
      refine wa_putf (pc := 68) (y := mX6_read) (k := 5) 13 .int dX6_read_68 mH_o rfl q2656 (Or.inl rfl) (Nat.le_of_ble_eq_true rfl) rfl (by decide +kernel) rfl rfl ?_
      rw [mW_o13]
      first | refine wa_aload_n (pc := 71) (y := mX6_read) dX6_read_71 rfl ?_ | refine wa_aload_nN (pc := 71) (y := mX6_read) dX6_read_71 rfl ?_ | refine wa_aload_nq (pc := 71) (y := mX6_read) dX6_read_71 rfl ?_
      first | refine wa_aload_n (pc := 72) (y := mX6_read) dX6_read_72 rfl ?_ | refine wa_aload_nN (pc := 72) (y := mX6_read) dX6_read_72 rfl ?_ | refine wa_aload_nq (pc := 72) (y := mX6_read) dX6_read_72 rfl ?_
      refine wa_getf (pc := 73) (y := mX6_read) (k := 5) 12 dX6_read_73 mH_o rfl q2655 (Or.inl rfl) (Nat.le_of_ble_eq_true rfl) (by rfl) ?_
      rw [show ∀ a c e k v, (mV (mV (TX σ a false c e k) 10 (Int32.ofNat 0)) 13 v).2 12 = bI false from fun _ _ _ _ _ => rfl]
      refine wa_if_eq (pc := 76) 83 dX6_read_76 rfl (fun hb76 => ?_) (fun hb76 => absurd rfl hb76)
      refine wa_iconst (pc := 83) (y := mX6_read) (Int32.ofNat 0) dX6_read_83 rfl ?_
      refine wa_putf (pc := 84) (y := mX6_read) (k := 5) 7 .int dX6_read_84 mH_o rfl q2650 (Or.inl rfl) (Nat.le_of_ble_eq_true rfl) rfl (by decide +kernel) rfl rfl ?_
      rw [mW_o7]
      first | refine wa_aload_n (pc := 87) (y := mX6_read) dX6_read_87 rfl ?_ | refine wa_aload_nN (pc := 87) (y := mX6_read) dX6_read_87 rfl ?_ | refine wa_aload_nq (pc := 87) (y := mX6_read) dX6_read_87 rfl ?_
      refine wa_callV (pc := 88) (s_X6_keepState (d := d - 1) (by omega)) dX6_read_88 okX6_keepState q2707 q2709 qs39 mH_o rfl rfl rfl (Nat.le_of_ble_eq_true rfl) (Nat.le_of_ble_eq_true rfl) (by omega) ?_
      rintro _ _ - - ⟨rfl, rfl⟩
      refine aft_0 (pc2 := 91) ?_ rfl
      refine wa_iconst (pc := 91) (y := mX6_read) (Int32.ofNat 0) dX6_read_91 rfl ?_
      refine wa_istore_n (pc := 92) (y := mX6_read) dX6_read_92 (Nat.le_of_ble_eq_true rfl) rfl ?_
      change WA _ _ _ _ (List.set _ 1 _) _ _ _
      simp only [List.set_cons_zero, List.set_cons_succ]
      exact at93
  have re := @s_X6_readEntry G (d - 1) h m f σ 0 0 L false (σ.1 14) (σ.1 15) (by omega) hG hL2 hL (Nat.zero_le _) (by omega) hin
  have lp := rd_loop (Q := fun r h' => r = .inl (some (.int (O_readS f σ (rdG (σ.1 9) L 60 (rdS (σ.1 9) L (0, false, 0, σ.1 14, σ.1 15)))).2.1)) ∧ h' = mH h m (O_readS f σ (rdG (σ.1 9) L 60 (rdS (σ.1 9) L (0, false, 0, σ.1 14, σ.1 15)))).2.2.1 (O_readS f σ (rdG (σ.1 9) L 60 (rdS (σ.1 9) L (0, false, 0, σ.1 14, σ.1 15)))).2.2.2) (d := d) (h := h) (m := m) (f := f) (by omega) hG hL2 hL hin 60 _ h0 (fun _ => by omega) (fun hk => at44 _ hk)
  first | refine wa_aload_n (pc := 0) (y := mX6_read) dX6_read_0 rfl ?_ | refine wa_aload_nN (pc := 0) (y := mX6_read) dX6_read_0 rfl ?_ | refine wa_aload_nq (pc := 0) (y := mX6_read) dX6_read_0 rfl ?_
  refine wa_iconst (pc := 1) (y := mX6_read) (Int32.ofNat 0) dX6_read_1 rfl ?_
  refine wa_putf (pc := 2) (y := mX6_read) (k := 5) 11 .int dX6_read_2 mH_o rfl q2654 (Or.inl rfl) (Nat.le_of_ble_eq_true rfl) rfl (by decide +kernel) rfl rfl ?_
  rw [mW_o11]
  first | refine wa_aload_n (pc := 5) (y := mX6_read) dX6_read_5 rfl ?_ | refine wa_aload_nN (pc := 5) (y := mX6_read) dX6_read_5 rfl ?_ | refine wa_aload_nq (pc := 5) (y := mX6_read) dX6_read_5 rfl ?_
  refine wa_iconst (pc := 6) (y := mX6_read) (Int32.ofNat 0) dX6_read_6 rfl ?_
  refine wa_putf (pc := 7) (y := mX6_read) (k := 5) 12 .boolean dX6_read_7 mH_o rfl q2655 (Or.inl rfl) (Nat.le_of_ble_eq_true rfl) rfl (by decide +kernel) rfl rfl ?_
  rw [mW_o12]
  first | refine wa_aload_n (pc := 10) (y := mX6_read) dX6_read_10 rfl ?_ | refine wa_aload_nN (pc := 10) (y := mX6_read) dX6_read_10 rfl ?_ | refine wa_aload_nq (pc := 10) (y := mX6_read) dX6_read_10 rfl ?_
  refine wa_iconst (pc := 11) (y := mX6_read) (Int32.ofNat 0) dX6_read_11 rfl ?_
  refine wa_putf (pc := 12) (y := mX6_read) (k := 5) 16 .int dX6_read_12 mH_o rfl q2659 (Or.inl rfl) (Nat.le_of_ble_eq_true rfl) rfl (by decide +kernel) rfl rfl ?_
  rw [mW_o16, TX_0]
  first | refine wa_aload_n (pc := 15) (y := mX6_read) dX6_read_15 rfl ?_ | refine wa_aload_nN (pc := 15) (y := mX6_read) dX6_read_15 rfl ?_ | refine wa_aload_nq (pc := 15) (y := mX6_read) dX6_read_15 rfl ?_
  refine wa_callV (pc := 16) re dX6_read_16 okX6_readEntry q2999 q3001 qs76 mH_o rfl rfl rfl (Nat.le_of_ble_eq_true rfl) (Nat.le_of_ble_eq_true rfl) (by omega) ?_
  rintro _ _ - - ⟨rfl, rfl⟩
  refine aft_0 (pc2 := 19) ?_ rfl
  exact lp
end MREAD2
