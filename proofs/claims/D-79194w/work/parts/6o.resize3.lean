/-! ===== resize: the whole ===== -/
section RZ3
variable {G : GG} {d n : Nat} {h h0 h1 h2 h3 : AH} {F F0 F1 F2 F3 : Nat → Nat → Value} {ρ ρ1 : Nat → Nat} {m p q x k tb nt i j : Nat} {ns a b A : List Nat} {B : Nat → List Nat}
theorem k8 {k : Nat} (h : 1 ≤ k ∧ k ≤ 8) : k = 1 ∨ k = 2 ∨ k = 3 ∨ k = 4 ∨ k = 5 ∨ k = 6 ∨ k = 7 ∨ k = 8 := by omega
theorem fl_thr (hk : 1 ≤ k ∧ k ≤ 8) : FP.f2i (FP.fmul (FP.i2f (Int32.ofNat (2 ^ k))) 1061158912) = Int32.ofNat (thr k) := by
  rcases k8 hk with rfl | rfl | rfl | rfl | rfl | rfl | rfl | rfl <;> decide +kernel
theorem fl_cmp (hk : 1 ≤ k ∧ k ≤ 8) : Op.cmpValue (FP.fcmp (FP.fmul (FP.i2f (Int32.ofNat (2 ^ k))) 1061158912) 1317011456) .g < 0 := by
  rcases k8 hk with rfl | rfl | rfl | rfl | rfl | rfl | rfl | rfl <;> decide +kernel
theorem fl_nn (hk : 1 ≤ k ∧ k ≤ 8) : vf_n32 (FP.fmul (FP.i2f (Int32.ofNat (2 ^ k))) 1061158912) := by
  unfold vf_n32
  rcases k8 hk with rfl | rfl | rfl | rfl | rfl | rfl | rfl | rfl <;> decide +kernel
theorem thr_2 (hk : 2 ≤ k) : thr k * 2 = thr (k + 1) := by
  unfold thr
  obtain ⟨c, rfl⟩ : ∃ c, k = c + 2 := ⟨k - 2, by omega⟩
  simp only [Nat.pow_succ]
  omega
theorem thr_pos (hk : 1 ≤ k) : 0 < thr k := by
  unfold thr
  obtain ⟨c, rfl⟩ : ∃ c, k = c + 1 := ⟨k - 1, by omega⟩
  have : 0 < 2 ^ c := Nat.two_pow_pos c
  rw [Nat.pow_succ]
  omega
theorem thr_le : thr k ≤ 2 ^ k := by
  unfold thr
  omega
/-- the outcome in the table nt of 2^k bins -/
def RzQ (h : AH) (F : Nat → Nat → Value) (m : Nat) (ns : List Nat) (k : Nat) (r : RR) (h' : AH) : Prop :=
  ∃ (h2 : AH) (F2 : Nat → Nat → Value) (nt : Nat) (ns2 : List Nat) (B2 : Nat → List Nat), r = .inl (some (.ref nt)) ∧ h' = sF h2 F2 ∧ h.1 ≤ nt ∧ MapC h2 F2 m nt k ns2 B2 ∧ es F2 ns2 = es F ns ∧ Fr (MFp F m ns) h F h2 F2 ∧
    (h2.1 ≤ h.1 + 1 + ns.length ∧ h2.2.1 ≤ h.2.1 + 2 ^ k + 6 * ns.length) ∧ (∀ z, z ∈ ns2 → z ∈ ns ∨ h.1 ≤ z) ∧ ∀ i, i = 1 ∨ i = 2 ∨ i = 3 ∨ i = 6 ∨ i = 7 → F2 m i = F m i
theorem rz_fin (C : RzC tb nt k B h F m ns) (I : RzI tb nt (2 ^ k) k B h F m ns h2 F2) : ∃ (ns2 : List Nat) (B2 : Nat → List Nat), LO F2 m ns2 ∧ ns2.Nodup ∧ (∀ z, z ∈ ns2 → NodeR h2 F2 z) ∧ (∀ p q, p ∈ ns2 → q ∈ ns2 → kF F2 p = kF F2 q → p = q) ∧ TabR h2 F2 nt (k + 1) ns2 B2 ∧ es F2 ns2 = es F ns ∧
    Ext h h2 ∧ (h2.1 ≤ h.1 + ns.length ∧ h2.2.1 ≤ h.2.1 + 6 * ns.length) ∧ (∀ z, z ∈ ns2 → z ∈ ns ∨ h.1 ≤ z) ∧ ∀ b j, b < h.1 → b ≠ nt → b ≠ tb → b ∉ ns → ¬ (b = m ∧ (j = 8 ∨ j = 9)) → F2 b j = F b j := by
  obtain ⟨hm, lo0, hnn, nk, hinj, ⟨htb, tB⟩, hnt, hne, hk, hnul, hlen⟩ := C
  obtain ⟨ρ, D, R, Dn, Db, Dk, H⟩ := I
  have hk0 : 0 < 2 ^ k := Nat.two_pow_pos k
  have hkk : 2 ^ (k + 1) = 2 ^ k + 2 ^ k := by rw [Nat.pow_succ]; omega
  have hN : ∀ z, z ∈ ns → Nd h z := fun z hz => (nk z hz).1
  have hzt : ∀ z, z ∈ ns → z ≠ tb := fun z hz => (hN z hz).ne htb (by decide) (by decide)
  have hzn : ∀ z, z ∈ ns → z ≠ nt := fun z hz => (hN z hz).ne hnt (by decide) (by decide)
  have hzm : ∀ z, z ∈ ns → z ≠ m := fun z hz => (hN z hz).ne hm (by decide) (by decide)
  have hlt : ∀ z, z ∈ ns → z < h.1 := fun z hz => (hN z hz).lt
  have hmem : ∀ b z, b < 2 ^ k → z ∈ B b → z ∈ ns ∧ kF F z % 2 ^ k = b := fun b z hb hz => ((tB b hb).2.2.2 z).mp hz
  have hDns : ∀ z, z ∈ D → z ∈ ns := fun z hz => by obtain ⟨b, hb, h8⟩ := Db z hz; exact (hmem b z hb h8).1
  have hnd := R.nodup hnn hlt
  obtain ⟨r1, r2, r3, r4, r5, r6, r7, r8⟩ := R
  have hle := r1.1
  have g : ∀ z i, z ∈ ns → i < 3 → F2 (ρ z) i = F z i := fun z i hz hi => by
    by_cases hzD : z ∈ D
    · exact r7 z hzD i hi
    · rw [r4 z hzD]
      exact r8 z i (hlt z hz) (fun e => by rcases e with e | e | e; exact hzn z hz e.1; exact hzt z hz e.1; omega) (fun e => hzm z hz e.1) (fun e => by omega)
  have gk : ∀ z, z ∈ ns → kF F2 (ρ z) = kF F z := fun z hz => kF_congr (F := fun a i => F z i) (p := ρ z) (g z 0 hz (by decide))
  have gv : ∀ z, z ∈ ns → vF F2 (ρ z) = vF F z := fun z hz => vF_congr (F := fun a i => F z i) (p := ρ z) (g z 2 hz (by decide))
  have gN : ∀ z, z ∈ ns → Nd h2 (ρ z) := fun z hz => by
    by_cases hzD : z ∈ D
    · exact Or.inl (Dk z hzD)
    · rw [r4 z hzD]; exact (hN z hz).ext r1
  have gK : ∀ q i, Is h q 4 2 → F2 q i = F q i := fun q i hq => r8 q i hq.lt (fun e => by rcases e with e | e | e; exact hq.ne hnt (by decide) e.1; exact hq.ne htb (by decide) e.1; obtain ⟨⟨b, hb, e⟩, -⟩ := e; exact (hN q (hmem b q (by omega) e).1).ne hq (by decide) (by decide) rfl) (fun e => hq.ne hm (by decide) e.1) (fun e => (hN q e.1).ne hq (by decide) (by decide) rfl)
  have HB : ∀ b, ∃ L : List Nat, b < 2 ^ (k + 1) → F2 nt b = va_rf L.head? ∧ BinR h2 F2 L ∧ L.Nodup ∧ ∀ p, p ∈ L ↔ p ∈ ns.map ρ ∧ kF F2 p % 2 ^ (k + 1) = b := fun b => by
    by_cases hb : b < 2 ^ (k + 1)
    · by_cases hbk : b < 2 ^ k
      · obtain ⟨L, e1, e2, e3, e4⟩ := (H b hbk).1
        refine ⟨L, fun _ => ⟨e1, e2, e3, fun p => (e4 p).trans ⟨fun ⟨z, hz, e⟩ => ?_, fun ⟨h1, h2⟩ => ?_⟩⟩⟩
        · obtain ⟨hz1, hz2⟩ := List.mem_filter.mp hz
          have h9 := hmem b z hbk hz1
          subst e
          refine ⟨List.mem_map.mpr ⟨z, h9.1, rfl⟩, ?_⟩
          rw [gk z h9.1, bit_lo (by simpa using hz2)]
          exact h9.2
        · obtain ⟨z, hz, rfl⟩ := List.mem_map.mp h1
          rw [gk z hz] at h2
          have hbit : (kF F z).testBit k = false := by
            cases e : (kF F z).testBit k with
            | false => rfl
            | true => rw [bit_hi e] at h2; omega
          rw [bit_lo hbit] at h2
          exact ⟨z, List.mem_filter.mpr ⟨((tB b hbk).2.2.2 z).mpr ⟨hz, h2⟩, by simp [hbit]⟩, rfl⟩
      · obtain ⟨c, rfl⟩ : ∃ c, b = c + 2 ^ k := ⟨b - 2 ^ k, by omega⟩
        have hbk : c < 2 ^ k := by omega
        obtain ⟨L, e1, e2, e3, e4⟩ := (H c hbk).2
        refine ⟨L, fun _ => ⟨e1, e2, e3, fun p => (e4 p).trans ⟨fun ⟨z, hz, e⟩ => ?_, fun ⟨h1, h2⟩ => ?_⟩⟩⟩
        · obtain ⟨hz1, hz2⟩ := List.mem_filter.mp hz
          have h9 := hmem c z hbk hz1
          subst e
          refine ⟨List.mem_map.mpr ⟨z, h9.1, rfl⟩, ?_⟩
          rw [gk z h9.1, bit_hi (by simpa using hz2), h9.2]
        · obtain ⟨z, hz, rfl⟩ := List.mem_map.mp h1
          rw [gk z hz] at h2
          have hbit : (kF F z).testBit k = true := by
            cases e : (kF F z).testBit k with
            | true => rfl
            | false => rw [bit_lo e] at h2; have := Nat.mod_lt (kF F z) hk0; omega
          rw [bit_hi hbit] at h2
          exact ⟨z, List.mem_filter.mpr ⟨((tB c hbk).2.2.2 z).mpr ⟨hz, by omega⟩, by simp [hbit]⟩, rfl⟩
    · exact ⟨[], fun h => absurd h hb⟩
  have hDl : D.length ≤ ns.length := nodup_len Dn hDns
  refine ⟨ns.map ρ, fun b => (HB b).choose, r6, hnd, fun z hz => ?_, fun p q hp hq e => ?_, ⟨hnt.ext r1, fun b hb => (HB b).choose_spec hb⟩, ?_, r1, ⟨by omega, by omega⟩, fun z hz => ?_, fun b i hb h1 h2 h3 h4 => ?_⟩
  · obtain ⟨w, hw, rfl⟩ := List.mem_map.mp hz
    obtain ⟨-, ⟨e0, q, e1, eK⟩, e2⟩ := nk w hw
    refine ⟨gN w hw, ?_, ?_⟩
    · rw [gk w hw]
      exact ⟨(g w 0 hw (by decide)).trans e0, q, (g w 1 hw (by decide)).trans e1, eK.1.ext r1, (gK q 0 eK.1).trans eK.2.1, (gK q 1 eK.1).trans eK.2.2.1, eK.2.2.2⟩
    · rw [gv w hw]
      exact (g w 2 hw (by decide)).trans e2
  · obtain ⟨w, hw, rfl⟩ := List.mem_map.mp hp
    obtain ⟨w2, hw2, rfl⟩ := List.mem_map.mp hq
    rw [gk w hw, gk w2 hw2] at e
    rw [hinj w w2 hw hw2 e]
  · unfold es
    rw [List.map_map]
    exact List.map_congr_left fun z hz => by
      show (kF F2 (ρ z), vF F2 (ρ z)) = _
      rw [gk z hz, gv z hz]
  · obtain ⟨w, hw, rfl⟩ := List.mem_map.mp hz
    by_cases hwD : w ∈ D
    · exact Or.inr (r3 w hwD).1
    · rw [r4 w hwD]; exact Or.inl hw
  · exact r8 b i hb (fun e => by rcases e with e | e | e; exact h1 e.1; exact h2 e.1; obtain ⟨⟨c, hc, e⟩, -⟩ := e; exact h3 (hmem c b hc e).1) h4 (fun e => h3 e.1)
/-- the table is made, the old one taken apart -/
theorem rz_125 {v3 v6 v7 v8 v9 v10 v11 v12 v13 : Value} (hd : 6 ≤ d) (hG : StG G) (hm : Is h m 12 12) (M : MapC h F m tb k ns B) (hk : k ≤ 7) (hlen : ns.length < 1000) :
    WA G d mJ4_resize 125 [.ref m, .ref tb, .int (Int32.ofNat (2 ^ k)), v3, .int (Int32.ofNat (2 ^ (k + 1))), .int (Int32.ofNat (thr (k + 1))), v6, v7, v8, v9, v10, v11, v12, v13] [] (sF h F) (RzQ h F m ns (k + 1)) := by
  have hne9 := M.ne
  obtain ⟨-, m5, m10, m11, mlo, mn, mN, minj, mv, t1, ⟨htb, tB⟩, hk1, m4⟩ := M
  have hk2 : 2 ^ (k + 1) < 2 ^ 9 := Nat.pow_lt_pow_right (by decide) (by omega)
  have hml := hm.lt
  have htl := htb.lt
  have hN : ∀ z, z ∈ ns → Nd h z := fun z hz => (mN z hz).1
  have hlt : ∀ z, z ∈ ns → z < h.1 := fun z hz => (hN z hz).lt
  have hmn : m ≠ h.1 := by omega
  obtain ⟨Fb, hFb⟩ : ∃ Fb, Fb = updF (newF (updF F m 4 (.int (Int32.ofNat (thr (k + 1))))) h.1 (fun _ => .null)) m 0 (.ref h.1) := ⟨_, rfl⟩
  have fo : ∀ b i, b < h.1 → b ≠ m → Fb b i = F b i := fun b i hb hbm => by rw [hFb]; exact (updF_a hbm rfl).trans ((newF_a (by omega) rfl).trans (updF_a hbm rfl))
  have fm : ∀ i, i ≠ 0 → i ≠ 4 → Fb m i = F m i := fun i h0 h4 => by rw [hFb]; exact (updF_i h0 rfl).trans ((newF_a hmn rfl).trans (updF_i h4 rfl))
  have fm4 : Fb m 4 = .int (Int32.ofNat (thr (k + 1))) := by rw [hFb]; exact (updF_i (by decide) rfl).trans ((newF_a hmn rfl).trans (updF_self _ _ _ _))
  have fm0 : Fb m 0 = .ref h.1 := by rw [hFb]; exact updF_self _ _ _ _
  have fnt : ∀ i, Fb h.1 i = .null := fun i => by rw [hFb]; exact (updF_a (Ne.symm hmn) rfl).trans (newF_self rfl)
  have fz : ∀ z i, z ∈ ns → Fb z i = F z i := fun z i hz => fo z i (hlt z hz) (hne9.2 z hz).1
  have fk : ∀ z, z ∈ ns → kF Fb z = kF F z := fun z hz => kF_congr (fz z 0 hz)
  have fK : ∀ q i, Is h q 4 2 → Fb q i = F q i := fun q i hq => fo q i hq.lt (hq.ne hm (by decide))
  have esb : es Fb ns = es F ns := es_congr fun p hp => ⟨fz p 0 hp, fz p 2 hp⟩
  have C : RzC tb h.1 k B (hNew h 36 (2 ^ (k + 1))) Fb m ns := by
    refine ⟨hm.new, mlo.congr (fm 8 (by decide) (by decide)) (fm 9 (by decide) (by decide)) (fun z hz => fz z 4 hz) (fun z hz => fz z 5 hz), mn, fun z hz => (mN z hz).ext Ext.new (fun i _ => fz z i hz) fK, fun p q hp hq e => minj p q hp hq (by rw [← fk p hp, ← fk q hq]; exact e), ⟨htb.new, fun b hb => ?_⟩, Is.self, by omega, by omega, fun i _ => fnt i, hlen⟩
    obtain ⟨b1, b2, b3, b4⟩ := tB b hb
    exact ⟨(fo tb b htl hne9.1).trans b1, b2.congr Ext.new fun z i hz _ => fz z i ((b4 z).mp hz).1, b3, fun p => (b4 p).trans ⟨fun h => ⟨h.1, by rw [fk p h.1]; exact h.2⟩, fun h => ⟨h.1, by rw [← fk p h.1]; exact h.2⟩⟩⟩
  have I0 : RzI tb h.1 0 k B (hNew h 36 (2 ^ (k + 1))) Fb m ns (hNew h 36 (2 ^ (k + 1))) Fb := ⟨fun z => z, [], RepQ.refl C.2.1, (by simp), fun z hz => (by cases hz), fun z hz => (by cases hz), fun b hb => by omega⟩
  have hbig : 2 ^ (k + 1) * 4 ≤ 536870912 := by omega
  refine wa_aloadV_n (pc := 125) (y := mJ4_resize) dJ4_resize_125 rfl (by first | exact rf_s _ | exact rf_n | exact rf_q _) ?_
  refine wa_iload (pc := 126) (y := mJ4_resize) dJ4_resize_126 rfl ?_
  refine wf_put (k := 12) (l := 12) 4 .int dJ4_resize_128 (by assumption) rfl q215 (Or.inl rfl) (Nat.le_of_ble_eq_true rfl) rfl (by decide +kernel) rfl rfl ?_
  refine wa_iload (pc := 131) (y := mJ4_resize) dJ4_resize_131 rfl ?_
  refine wf_anewarray 36 dJ4_resize_133 (by omega) (Or.inr ⟨rfl, rfl⟩) q1284 q1285 ?_
  have hm2 : Is (hNew h 36 (2 ^ (k + 1))) m 12 12 := hm.new
  refine wa_astoreV (pc := 136) (y := mJ4_resize) dJ4_resize_136 (Nat.le_of_ble_eq_true rfl) (by first | rfl | (simp [okst, rf_cat] <;> assumption)) (by first | exact rf_s _ | exact rf_n | exact rf_q _) ?_
  simp only [List.set_cons_zero, List.set_cons_succ]
  refine wa_aloadV_n (pc := 138) (y := mJ4_resize) dJ4_resize_138 rfl (by first | exact rf_s _ | exact rf_n | exact rf_q _) ?_
  refine wa_aloadV (pc := 139) (y := mJ4_resize) dJ4_resize_139 rfl (by first | exact rf_s _ | exact rf_n | exact rf_q _) ?_
  refine wf_put (k := 12) (l := 12) 0 (.array (.object "java/util/HashMap$Node")) dJ4_resize_141 (by assumption) rfl q207 (Or.inl rfl) (Nat.le_of_ble_eq_true rfl) rfl (by decide +kernel) (by first | rfl | exact rf_nar _ | exact rf_nar2 _) (by first | rfl | exact rf_fit _ | exact rf_fit2 _) ?_
  refine wa_aloadV_n (pc := 144) (y := mJ4_resize) dJ4_resize_144 rfl (by first | exact rf_s _ | exact rf_n | exact rf_q _) ?_
  refine wa_ifnull (pc := 145) (y := mJ4_resize) dJ4_resize_145 ?_
  refine wa_iconst (pc := 148) (y := mJ4_resize) (Int32.ofNat 0) dJ4_resize_148 rfl ?_
  refine wa_istore (pc := 149) (y := mJ4_resize) dJ4_resize_149 (Nat.le_of_ble_eq_true rfl) (by first | rfl | (simp [okst, rf_cat] <;> assumption)) ?_
  simp only [List.set_cons_zero, List.set_cons_succ]
  rw [← hFb]; refine rz_151 (by omega) hG C (fun h3 F3 I => ?_) (2 ^ k) 0 _ Fb _ _ _ _ _ _ (by omega) I0
  obtain ⟨ns2, B2, e1, e2, e3, e4, e5, e6, e7, e8, e9, e10⟩ := rz_fin C I
  rw [hNew_1, hNew_2] at e8
  have g : ∀ b i, b < h.1 → b ≠ tb → b ∉ ns → ¬ (b = m ∧ (i = 8 ∨ i = 9)) → F3 b i = Fb b i := fun b i hb h1 h2 h3 => e10 b i (by rw [hNew_1]; omega) (by omega) h1 h2 h3
  have gm : ∀ i, i ≠ 8 → i ≠ 9 → F3 m i = Fb m i := fun i h8 h9 => g m i hml (Ne.symm hne9.1) (fun e => (hne9.2 m e).1 rfl) (fun e => by omega)
  have gm2 : ∀ i, i ≠ 8 → i ≠ 9 → i ≠ 0 → i ≠ 4 → F3 m i = F m i := fun i h8 h9 h0 h4 => (gm i h8 h9).trans (fm i h0 h4)
  have gv : ∀ i k9, VwR h F m i k9 → k9 = 19 ∨ k9 = 15 ∨ k9 = 17 → i = 1 ∨ i = 6 ∨ i = 7 → VwR h3 F3 m i k9 := fun i k9 V hk9 hi => V.ext (Ext.new.trans e7) (gm2 i (by omega) (by omega) (by omega) (by omega)) fun v9 j hv9 => by
    rcases V with V | ⟨v8, q1, q2, -⟩
    · rw [V] at hv9; cases hv9
    · rw [q1] at hv9; cases hv9
      have a1 := q2.ne hm (by omega)
      exact (g v9 j q2.lt (q2.ne htb (by omega)) (fun e => (hN v9 e).ne q2 (by omega) (by omega) rfl) (fun e => a1 e.1)).trans (fo v9 j q2.lt a1)
  refine ⟨h3, F3, h.1, ns2, B2, rfl, rfl, Nat.le_refl _, ⟨hm.new.ext e7, (gm2 5 (by decide) (by decide) (by decide) (by decide)).trans m5, (gm2 10 (by decide) (by decide) (by decide) (by decide)).trans m10, (gm2 11 (by decide) (by decide) (by decide) (by decide)).trans m11, e1, e2, e3, e4, ⟨gv 1 19 mv.1 (by decide) (by decide), gv 6 15 mv.2.1 (by decide) (by decide), gv 7 17 mv.2.2 (by decide) (by decide)⟩, (gm 0 (by decide) (by decide)).trans fm0, e5, by omega, (gm 4 (by decide) (by decide)).trans fm4⟩, e6.trans esb, ⟨Ext.new.trans e7, fun b hb hP => ?_⟩, by omega, fun z hz => (e9 z hz).imp (fun h => h) (fun h9 => by rw [hNew_1] at h9; omega), fun i hi => gm2 i (by omega) (by omega) (by omega) (by omega)⟩
  have hbm : b ≠ m := fun e => hP (Or.inl e)
  funext i
  exact (g b i hb (fun e => hP (Or.inr (Or.inr (Or.inl (by rw [e]; exact t1))))) (fun e => hP (Or.inr (Or.inl e))) (fun e => hbm e.1)).trans (fo b i hb hbm)
theorem s_J4_resize (hd : 7 ≤ d) (hG : StG G) (M : MapC h F m tb k ns B) (hk : k ≤ 7) (hlen : ns.length < 1000) :
    MA G d mJ4_resize [.ref m] (sF h F) (RzQ h F m ns (k + 1)) := by
  have M9 := M
  obtain ⟨hm, m5, m10, m11, mlo, mn, mN, minj, mv, t1, ⟨htb, tB⟩, hk1, m4⟩ := M
  have hk2 : 2 ^ (k + 1) < 2 ^ 9 := Nat.pow_lt_pow_right (by decide) (by omega)
  have hk0 : 0 < 2 ^ k := Nat.two_pow_pos k
  have hkk : 2 ^ (k + 1) = 2 ^ k + 2 ^ k := by rw [Nat.pow_succ]; omega
  have ht := thr_pos (k := k + 1) (by omega)
  have ht2 := thr_le (k := k + 1)
  have ht3 := thr_le (k := k)
  have hk16 : 2 ^ k < 16 ∨ 16 ≤ 2 ^ k := by omega
  change WA G d mJ4_resize 0 [.ref m, .retAddr 0, .retAddr 0, .retAddr 0, .retAddr 0, .retAddr 0, .retAddr 0, .retAddr 0, .retAddr 0, .retAddr 0, .retAddr 0, .retAddr 0, .retAddr 0, .retAddr 0] [] _ _
  rcases hk16 with h16 | h16
  · refine wa_aloadV_n (pc := 0) (y := mJ4_resize) dJ4_resize_0 rfl (by first | exact rf_s _ | exact rf_n | exact rf_q _) ?_
    refine wf_get (k := 12) (l := 12) 0 dJ4_resize_1 (by assumption) rfl q207 (Or.inl rfl) (Nat.le_of_ble_eq_true rfl) (Nat.le_of_ble_eq_true rfl) (by (repeat (first | exact updF_self _ _ _ _ | (apply updF_i; · decide) | (apply updF_a; · first | assumption | (apply Ne.symm; assumption) | omega) | (apply newF_a; · first | assumption | (apply Ne.symm; assumption) | omega) | exact newL_self (by rfl) | exact newF_self (by rfl) | (apply cpyF_a; · first | assumption | (apply Ne.symm; assumption) | omega))) <;> first | assumption | rfl) ?_
    refine wa_astoreV_n (pc := 4) (y := mJ4_resize) dJ4_resize_4 (Nat.le_of_ble_eq_true rfl) (by first | rfl | (simp [okst, rf_cat] <;> assumption)) (by first | exact rf_s _ | exact rf_n | exact rf_q _) ?_
    change WA _ _ _ _ (List.set _ 1 _) _ _ _
    simp only [List.set_cons_zero, List.set_cons_succ]
    refine wa_aloadV_n (pc := 5) (y := mJ4_resize) dJ4_resize_5 rfl (by first | exact rf_s _ | exact rf_n | exact rf_q _) ?_
    refine wa_ifnonnull (pc := 6) (y := mJ4_resize) 13 dJ4_resize_6 rfl ?_
    refine wa_aloadV_n (pc := 13) (y := mJ4_resize) dJ4_resize_13 rfl (by first | exact rf_s _ | exact rf_n | exact rf_q _) ?_
    refine wf_alen dJ4_resize_14 (by assumption) (by decide) ?_
    refine wa_istore_n (pc := 15) (y := mJ4_resize) dJ4_resize_15 (Nat.le_of_ble_eq_true rfl) (by first | rfl | (simp [okst, rf_cat] <;> assumption)) ?_
    change WA _ _ _ _ (List.set _ 2 _) _ _ _
    simp only [List.set_cons_zero, List.set_cons_succ]
    refine wa_aloadV_n (pc := 16) (y := mJ4_resize) dJ4_resize_16 rfl (by first | exact rf_s _ | exact rf_n | exact rf_q _) ?_
    refine wf_get (k := 12) (l := 12) 4 dJ4_resize_17 (by assumption) rfl q215 (Or.inl rfl) (Nat.le_of_ble_eq_true rfl) (Nat.le_of_ble_eq_true rfl) (by (repeat (first | exact updF_self _ _ _ _ | (apply updF_i; · decide) | (apply updF_a; · first | assumption | (apply Ne.symm; assumption) | omega) | (apply newF_a; · first | assumption | (apply Ne.symm; assumption) | omega) | exact newL_self (by rfl) | exact newF_self (by rfl) | (apply cpyF_a; · first | assumption | (apply Ne.symm; assumption) | omega))) <;> first | assumption | rfl) ?_
    refine wa_istore_n (pc := 20) (y := mJ4_resize) dJ4_resize_20 (Nat.le_of_ble_eq_true rfl) (by first | rfl | (simp [okst, rf_cat] <;> assumption)) ?_
    change WA _ _ _ _ (List.set _ 3 _) _ _ _
    simp only [List.set_cons_zero, List.set_cons_succ]
    refine wa_iconst (pc := 21) (y := mJ4_resize) (Int32.ofNat 0) dJ4_resize_21 rfl ?_
    refine wa_istore (pc := 22) (y := mJ4_resize) dJ4_resize_22 (Nat.le_of_ble_eq_true rfl) (by first | rfl | (simp [okst, rf_cat] <;> assumption)) ?_
    simp only [List.set_cons_zero, List.set_cons_succ]
    refine wa_iload_n (pc := 24) (y := mJ4_resize) dJ4_resize_24 rfl ?_
    refine wa_if_le (pc := 25) 67 dJ4_resize_25 rfl (fun hb25 => absurd hb25 (Int32.not_le.mpr ((iN_gt0 (by omega)).mpr hk0))) (fun hb25 => ?_)
    refine wa_iload_n (pc := 28) (y := mJ4_resize) dJ4_resize_28 rfl ?_
    refine wa_ldc (pc := 29) (y := mJ4_resize) dJ4_resize_29 q1272 ?_
    refine wa_icmp_lt (pc := 31) 42 dJ4_resize_31 rfl (fun hb31 => ?_) (fun hb31 => absurd ((iN_lt (b := 1073741824) (by omega) (by omega)).mpr (by omega)) hb31)
    refine wa_iload_n (pc := 42) (y := mJ4_resize) dJ4_resize_42 rfl ?_
    refine wa_iconst (pc := 43) (y := mJ4_resize) (Int32.ofNat 1) dJ4_resize_43 rfl ?_
    refine wa_ishl (pc := 44) (y := mJ4_resize) dJ4_resize_44 ?_
    rw [iN_shl (k := 1) (by decide), show 2 ^ k * 2 ^ 1 = 2 ^ (k + 1) by omega]
    refine wa_dup (pc := 45) (y := mJ4_resize) dJ4_resize_45 (by first | rfl | exact rf_cat _) ?_
    refine wa_istore (pc := 46) (y := mJ4_resize) dJ4_resize_46 (Nat.le_of_ble_eq_true rfl) (by first | rfl | (simp [okst, rf_cat] <;> assumption)) ?_
    simp only [List.set_cons_zero, List.set_cons_succ]
    refine wa_ldc (pc := 48) (y := mJ4_resize) dJ4_resize_48 q1272 ?_
    refine wa_icmp_ge (pc := 50) 85 dJ4_resize_50 rfl (fun hb50 => absurd hb50 (Int32.not_le.mpr ((iN_lt (b := 1073741824) (by omega) (by omega)).mpr (by omega)))) (fun hb50 => ?_)
    refine wa_iload_n (pc := 53) (y := mJ4_resize) dJ4_resize_53 rfl ?_
    refine wa_bipush (pc := 54) (y := mJ4_resize) (Int32.ofNat 16) dJ4_resize_54 rfl ?_
    refine wa_icmp_lt (pc := 56) 85 dJ4_resize_56 rfl (fun hb56 => ?_) (fun hb56 => absurd ((iN_lt (by omega) (by omega)).mpr h16) hb56)
    refine wa_iload (pc := 85) (y := mJ4_resize) dJ4_resize_85 rfl ?_
    refine wa_if_ne (pc := 87) 125 dJ4_resize_87 rfl (fun hb87 => absurd hb87 (by decide)) (fun hb87 => ?_)
    clear hb87
    refine wa_iload (pc := 90) (y := mJ4_resize) dJ4_resize_90 rfl ?_
    refine wa_i2f (pc := 92) (y := mJ4_resize) dJ4_resize_92 ?_
    refine wa_aloadV_n (pc := 93) (y := mJ4_resize) dJ4_resize_93 rfl (by first | exact rf_s _ | exact rf_n | exact rf_q _) ?_
    refine wf_get (k := 12) (l := 12) 5 dJ4_resize_94 (by assumption) rfl q216 (Or.inl rfl) (Nat.le_of_ble_eq_true rfl) (Nat.le_of_ble_eq_true rfl) (by (repeat (first | exact updF_self _ _ _ _ | (apply updF_i; · decide) | (apply updF_a; · first | assumption | (apply Ne.symm; assumption) | omega) | (apply newF_a; · first | assumption | (apply Ne.symm; assumption) | omega) | exact newL_self (by rfl) | exact newF_self (by rfl) | (apply cpyF_a; · first | assumption | (apply Ne.symm; assumption) | omega))) <;> first | assumption | rfl) ?_
    refine wa_fmul (pc := 97) (y := mJ4_resize) dJ4_resize_97 (fl_nn (k := k + 1) (by omega)) ?_
    refine wa_fstore (pc := 98) (y := mJ4_resize) dJ4_resize_98 (Nat.le_of_ble_eq_true rfl) (by first | rfl | (simp [okst, rf_cat] <;> assumption)) ?_
    simp only [List.set_cons_zero, List.set_cons_succ]
    refine wa_iload (pc := 100) (y := mJ4_resize) dJ4_resize_100 rfl ?_
    refine wa_ldc (pc := 102) (y := mJ4_resize) dJ4_resize_102 q1272 ?_
    refine wa_icmp_ge (pc := 104) 121 dJ4_resize_104 rfl (fun hb104 => absurd hb104 (Int32.not_le.mpr ((iN_lt (b := 1073741824) (by omega) (by omega)).mpr (by omega)))) (fun hb104 => ?_)
    refine wa_fload (pc := 107) (y := mJ4_resize) dJ4_resize_107 rfl ?_
    refine wa_ldcf (pc := 109) (y := mJ4_resize) dJ4_resize_109 q1283 ?_
    refine wa_fcmp (pc := 111) (y := mJ4_resize) dJ4_resize_111 ?_
    refine wa_if_ge (pc := 112) 121 dJ4_resize_112 rfl (fun hb112 => absurd hb112 (Int32.not_le.mpr (fl_cmp (k := k + 1) (by omega)))) (fun hb112 => ?_)
    refine wa_fload (pc := 115) (y := mJ4_resize) dJ4_resize_115 rfl ?_
    refine wa_f2i (pc := 117) (y := mJ4_resize) dJ4_resize_117 ?_
    rw [fl_thr (k := k + 1) (by omega)]
    refine wa_goto (pc := 118) (y := mJ4_resize) 123 dJ4_resize_118 rfl ?_
    refine wa_istore (pc := 123) (y := mJ4_resize) dJ4_resize_123 (Nat.le_of_ble_eq_true rfl) (by first | rfl | (simp [okst, rf_cat] <;> assumption)) ?_
    simp only [List.set_cons_zero, List.set_cons_succ]
    exact rz_125 (by omega) hG hm M9 hk hlen
  · refine wa_aloadV_n (pc := 0) (y := mJ4_resize) dJ4_resize_0 rfl (by first | exact rf_s _ | exact rf_n | exact rf_q _) ?_
    refine wf_get (k := 12) (l := 12) 0 dJ4_resize_1 (by assumption) rfl q207 (Or.inl rfl) (Nat.le_of_ble_eq_true rfl) (Nat.le_of_ble_eq_true rfl) (by (repeat (first | exact updF_self _ _ _ _ | (apply updF_i; · decide) | (apply updF_a; · first | assumption | (apply Ne.symm; assumption) | omega) | (apply newF_a; · first | assumption | (apply Ne.symm; assumption) | omega) | exact newL_self (by rfl) | exact newF_self (by rfl) | (apply cpyF_a; · first | assumption | (apply Ne.symm; assumption) | omega))) <;> first | assumption | rfl) ?_
    refine wa_astoreV_n (pc := 4) (y := mJ4_resize) dJ4_resize_4 (Nat.le_of_ble_eq_true rfl) (by first | rfl | (simp [okst, rf_cat] <;> assumption)) (by first | exact rf_s _ | exact rf_n | exact rf_q _) ?_
    change WA _ _ _ _ (List.set _ 1 _) _ _ _
    simp only [List.set_cons_zero, List.set_cons_succ]
    refine wa_aloadV_n (pc := 5) (y := mJ4_resize) dJ4_resize_5 rfl (by first | exact rf_s _ | exact rf_n | exact rf_q _) ?_
    refine wa_ifnonnull (pc := 6) (y := mJ4_resize) 13 dJ4_resize_6 rfl ?_
    refine wa_aloadV_n (pc := 13) (y := mJ4_resize) dJ4_resize_13 rfl (by first | exact rf_s _ | exact rf_n | exact rf_q _) ?_
    refine wf_alen dJ4_resize_14 (by assumption) (by decide) ?_
    refine wa_istore_n (pc := 15) (y := mJ4_resize) dJ4_resize_15 (Nat.le_of_ble_eq_true rfl) (by first | rfl | (simp [okst, rf_cat] <;> assumption)) ?_
    change WA _ _ _ _ (List.set _ 2 _) _ _ _
    simp only [List.set_cons_zero, List.set_cons_succ]
    refine wa_aloadV_n (pc := 16) (y := mJ4_resize) dJ4_resize_16 rfl (by first | exact rf_s _ | exact rf_n | exact rf_q _) ?_
    refine wf_get (k := 12) (l := 12) 4 dJ4_resize_17 (by assumption) rfl q215 (Or.inl rfl) (Nat.le_of_ble_eq_true rfl) (Nat.le_of_ble_eq_true rfl) (by (repeat (first | exact updF_self _ _ _ _ | (apply updF_i; · decide) | (apply updF_a; · first | assumption | (apply Ne.symm; assumption) | omega) | (apply newF_a; · first | assumption | (apply Ne.symm; assumption) | omega) | exact newL_self (by rfl) | exact newF_self (by rfl) | (apply cpyF_a; · first | assumption | (apply Ne.symm; assumption) | omega))) <;> first | assumption | rfl) ?_
    refine wa_istore_n (pc := 20) (y := mJ4_resize) dJ4_resize_20 (Nat.le_of_ble_eq_true rfl) (by first | rfl | (simp [okst, rf_cat] <;> assumption)) ?_
    change WA _ _ _ _ (List.set _ 3 _) _ _ _
    simp only [List.set_cons_zero, List.set_cons_succ]
    refine wa_iconst (pc := 21) (y := mJ4_resize) (Int32.ofNat 0) dJ4_resize_21 rfl ?_
    refine wa_istore (pc := 22) (y := mJ4_resize) dJ4_resize_22 (Nat.le_of_ble_eq_true rfl) (by first | rfl | (simp [okst, rf_cat] <;> assumption)) ?_
    simp only [List.set_cons_zero, List.set_cons_succ]
    refine wa_iload_n (pc := 24) (y := mJ4_resize) dJ4_resize_24 rfl ?_
    refine wa_if_le (pc := 25) 67 dJ4_resize_25 rfl (fun hb25 => absurd hb25 (Int32.not_le.mpr ((iN_gt0 (by omega)).mpr hk0))) (fun hb25 => ?_)
    refine wa_iload_n (pc := 28) (y := mJ4_resize) dJ4_resize_28 rfl ?_
    refine wa_ldc (pc := 29) (y := mJ4_resize) dJ4_resize_29 q1272 ?_
    refine wa_icmp_lt (pc := 31) 42 dJ4_resize_31 rfl (fun hb31 => ?_) (fun hb31 => absurd ((iN_lt (b := 1073741824) (by omega) (by omega)).mpr (by omega)) hb31)
    refine wa_iload_n (pc := 42) (y := mJ4_resize) dJ4_resize_42 rfl ?_
    refine wa_iconst (pc := 43) (y := mJ4_resize) (Int32.ofNat 1) dJ4_resize_43 rfl ?_
    refine wa_ishl (pc := 44) (y := mJ4_resize) dJ4_resize_44 ?_
    rw [iN_shl (k := 1) (by decide), show 2 ^ k * 2 ^ 1 = 2 ^ (k + 1) by omega]
    refine wa_dup (pc := 45) (y := mJ4_resize) dJ4_resize_45 (by first | rfl | exact rf_cat _) ?_
    refine wa_istore (pc := 46) (y := mJ4_resize) dJ4_resize_46 (Nat.le_of_ble_eq_true rfl) (by first | rfl | (simp [okst, rf_cat] <;> assumption)) ?_
    simp only [List.set_cons_zero, List.set_cons_succ]
    refine wa_ldc (pc := 48) (y := mJ4_resize) dJ4_resize_48 q1272 ?_
    refine wa_icmp_ge (pc := 50) 85 dJ4_resize_50 rfl (fun hb50 => absurd hb50 (Int32.not_le.mpr ((iN_lt (b := 1073741824) (by omega) (by omega)).mpr (by omega)))) (fun hb50 => ?_)
    refine wa_iload_n (pc := 53) (y := mJ4_resize) dJ4_resize_53 rfl ?_
    refine wa_bipush (pc := 54) (y := mJ4_resize) (Int32.ofNat 16) dJ4_resize_54 rfl ?_
    refine wa_icmp_lt (pc := 56) 85 dJ4_resize_56 rfl (fun hb56 => absurd ((iN_lt (by omega) (by omega)).mp hb56) (by omega)) (fun hb56 => ?_)
    refine wa_iload_n (pc := 59) (y := mJ4_resize) dJ4_resize_59 rfl ?_
    refine wa_iconst (pc := 60) (y := mJ4_resize) (Int32.ofNat 1) dJ4_resize_60 rfl ?_
    refine wa_ishl (pc := 61) (y := mJ4_resize) dJ4_resize_61 ?_
    rw [iN_shl (k := 1) (by decide), show thr k * 2 ^ 1 = thr (k + 1) from thr_2 (by rcases Nat.lt_or_ge k 2 with h9 | h9; (have := Nat.pow_le_pow_right (n := 2) (by decide) (show k ≤ 1 by omega); omega); exact h9)]
    refine wa_istore (pc := 62) (y := mJ4_resize) dJ4_resize_62 (Nat.le_of_ble_eq_true rfl) (by first | rfl | (simp [okst, rf_cat] <;> assumption)) ?_
    simp only [List.set_cons_zero, List.set_cons_succ]
    refine wa_goto (pc := 64) (y := mJ4_resize) 85 dJ4_resize_64 rfl ?_
    refine wa_iload (pc := 85) (y := mJ4_resize) dJ4_resize_85 rfl ?_
    refine wa_if_ne (pc := 87) 125 dJ4_resize_87 rfl (fun hb87 => ?_) (fun hb87 => absurd ((iN_eq0 (by omega)).mp hb87) (by omega))
    exact rz_125 (by omega) hG hm M9 hk hlen
end RZ3
