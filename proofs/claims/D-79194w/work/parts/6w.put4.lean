/-! ===== putVal: the whole ===== -/
section PUT4
variable {G : GG} {d n : Nat} {h h1 h2 h3 hA : AH} {F F1 F2 F3 FA : Nat → Nat → Value} {l m p q x k k1 k2 k3 tb bi i j c s w vv : Nat} {ev : Int32} {ns ns2 ns3 nsA a b A D L : List Nat} {B : Nat → List Nat}
theorem thr_mono (h : k ≤ k2) : thr k ≤ thr k2 := by
  unfold thr
  have := Nat.pow_le_pow_right (n := 2) (by decide) h
  omega
theorem pv_29 {v7 v9 v10 v11 v12 : Value} (hd : 10 ≤ d) (hG : StG G) (M : MapC h F m tb k ns B) (hs : F m 2 = .int (Int32.ofNat ns.length)) (hmc : ∃ z : Int32, F m 3 = .int z) (hl : ns.length ≤ thr k) (hl9 : ns.length ≤ 95) (K : KeyAt h F q x) (c7 : v7.category = 1) (c9 : v9.category = 1) (c10 : v10.category = 1) (c11 : v11.category = 1) :
    WA G d mJ4_putVal 29 [.ref m, .int (Int32.ofNat x), .ref q, .ref vv, .int 0, .int ev, .ref tb, v7, .int (Int32.ofNat (2 ^ k)), v9, v10, v11, v12] [] (sF h F) (PtQ m h F ns k x vv) := by
  have M9 := M
  have hne9 := M.ne
  have MR : MapR h F m ns := M.toR hs hmc hl
  have hx := K.2.2.2
  have K1 := K.1
  obtain ⟨hm, m5, m10, m11, mlo, mn, mN, minj, mv, t1, ⟨htb, tB⟩, hk1, m4⟩ := M
  have hk2 : 2 ^ k < 2 ^ 9 := Nat.pow_lt_pow_right (by decide) (by omega)
  have hk0 : 0 < 2 ^ k := Nat.two_pow_pos k
  have hN : ∀ z, z ∈ ns → Nd h z := fun z hz => (mN z hz).1
  have hlt : ∀ z, z ∈ ns → z < h.1 := fun z hz => (hN z hz).lt
  have hml := hm.lt
  have htl := htb.lt
  obtain ⟨bi, hbi⟩ : ∃ bi, x % 2 ^ k = bi := ⟨_, rfl⟩
  have hb : bi < 2 ^ k := by rw [← hbi]; exact Nat.mod_lt _ hk0
  obtain ⟨b1, b2, b3, b4⟩ := tB bi hb
  have hsub : ∀ z, z ∈ B bi → z ∈ ns := fun z hz => ((b4 z).mp hz).1
  have hno : (∀ z, z ∈ B bi → kF F z ≠ x) → ∀ z, z ∈ ns → kF F z ≠ x := fun h9 z hz e => h9 z ((b4 z).mpr ⟨hz, by rw [e]; exact hbi⟩) e
  have hnB : h.1 ∉ B bi := fun e => Nat.lt_irrefl _ (hlt _ (hsub _ e))
  have hmn : h.1 ≠ m := by omega
  have htn : h.1 ≠ tb := by omega
  have htm : tb ≠ m := hne9.1
  /- what is left to do behind a new node of the plain kind -/
  have plain : ∀ (F2 F3 : Nat → Nat → Value) (L : List Nat), LO F2 m (ns ++ [h.1]) → F2 h.1 0 = .int (Int32.ofNat x) → F2 h.1 1 = .ref q → F2 h.1 2 = .ref vv → (∀ b j, b ≠ h.1 → ¬ (b = m ∧ (j = 8 ∨ j = 9)) → ¬ (b ∈ ns ∧ (j = 4 ∨ j = 5)) → F2 b j = F b j) →
      FrP (fun z j => z = tb ∧ j = bi ∨ z ∈ B bi ∧ j = 3) F2 F3 → F3 tb bi = va_rf L.head? → BinR (hNew h 13 6) F3 L → L.Nodup → (∀ p, p ∈ L ↔ p ∈ B bi ∨ p = h.1) → (∀ z, z ∈ B bi → kF F z ≠ x) →
      ∃ B2 : Nat → List Nat, MapC (hNew h 13 6) F3 m tb k (ns ++ [h.1]) B2 ∧ es F3 (ns ++ [h.1]) = es F ns ++ [(x, vv)] ∧ MStep 1 11 m h F ns k (hNew h 13 6) F3 (ns ++ [h.1]) k ∧ ∀ i, i ≠ 8 → i ≠ 9 → F3 m i = F m i := fun F2 F3 L lo2 n0 n1 n2 fr fr3 e1 e2 e3 e4 hno9 => by
    have gh : ∀ j, F3 h.1 j = F2 h.1 j := fun j => fr3 h.1 j fun e => e.elim (fun e => htn e.1) (fun e => hnB e.1)
    have hn4 : ∀ z, z ∈ ns ++ [h.1] → z ≠ tb := fun z hz => by
      rcases List.mem_append.mp hz with hz | hz
      · exact (hne9.2 z hz).2
      · simp at hz; rw [hz]; exact htn
    refine M9.add (Or.inl ⟨rfl, rfl⟩) K (hno hno9) hbi (lo2.congr (fr3 m 8 fun e => ?_) (fr3 m 9 fun e => ?_) (fun z hz => fr3 z 4 fun e => ?_) (fun z hz => fr3 z 5 fun e => ?_)) ((gh 0).trans n0) ((gh 1).trans n1) ((gh 2).trans n2) e1 e2 e3 e4 (fun b j h1 h2 h3 h4 h5 => (fr3 b j fun e => ?_).trans (fr b j h1 h4 h5))
    · exact e.elim (fun e => htm e.1.symm) (fun e => by omega)
    · exact e.elim (fun e => htm e.1.symm) (fun e => by omega)
    · exact e.elim (fun e => hn4 z hz e.1) (fun e => by omega)
    · exact e.elim (fun e => hn4 z hz e.1) (fun e => by omega)
    · exact e.elim h2 (fun e => h3 ⟨e.1, Or.inl e.2⟩)
  cases hB : B bi with
  | nil =>
    have b1 : F tb bi = .null := by rw [b1, hB]; rfl
    refine wa_aloadV (pc := 29) (y := mJ4_putVal) dJ4_putVal_29 rfl (by first | exact rf_s _ | exact rf_n | exact rf_q _) ?_
    refine wa_iload (pc := 31) (y := mJ4_putVal) dJ4_putVal_31 rfl ?_
    refine wa_iconst (pc := 33) (y := mJ4_putVal) (Int32.ofNat 1) dJ4_putVal_33 rfl ?_
    refine wa_isub (pc := 34) (y := mJ4_putVal) dJ4_putVal_34 ?_
    rw [iN_sub (by omega)]
    refine wa_iload_n (pc := 35) (y := mJ4_putVal) dJ4_putVal_35 rfl ?_
    refine wa_iand (pc := 36) (y := mJ4_putVal) dJ4_putVal_36 ?_
    rw [iN_and, and_mod, hbi]
    refine wa_dup (pc := 37) (y := mJ4_putVal) dJ4_putVal_37 (by first | rfl | exact rf_cat _) ?_
    refine wa_istore (pc := 38) (y := mJ4_putVal) dJ4_putVal_38 (Nat.le_of_ble_eq_true rfl) (by first | rfl | (simp [okst, rf_cat] <;> assumption)) ?_
    simp only [List.set_cons_zero, List.set_cons_succ]
    refine wf_aaload dJ4_putVal_40 (by assumption) (by first | exact Or.inl rfl | exact Or.inr rfl) (by omega) (by (repeat (first | exact updF_self _ _ _ _ | (apply updF_i; · decide) | (apply updF_a; · first | assumption | (apply Ne.symm; assumption) | omega) | (apply newF_a; · first | assumption | (apply Ne.symm; assumption) | omega) | exact newL_self (by rfl) | exact newF_self (by rfl) | (apply cpyF_a; · first | assumption | (apply Ne.symm; assumption) | omega))) <;> first | assumption | rfl) ?_
    refine wa_dup (pc := 41) (y := mJ4_putVal) dJ4_putVal_41 (by first | rfl | exact rf_cat _) ?_
    refine wa_astoreV (pc := 42) (y := mJ4_putVal) dJ4_putVal_42 (Nat.le_of_ble_eq_true rfl) (by first | rfl | (simp [okst, rf_cat] <;> assumption)) (by first | exact rf_s _ | exact rf_n | exact rf_q _) ?_
    simp only [List.set_cons_zero, List.set_cons_succ]
    refine wa_ifnonnullN (pc := 44) (y := mJ4_putVal) dJ4_putVal_44 ?_
    refine wa_aloadV (pc := 47) (y := mJ4_putVal) dJ4_putVal_47 rfl (by first | exact rf_s _ | exact rf_n | exact rf_q _) ?_
    refine wa_iload (pc := 49) (y := mJ4_putVal) dJ4_putVal_49 rfl ?_
    refine wa_aloadV_n (pc := 51) (y := mJ4_putVal) dJ4_putVal_51 rfl (by first | exact rf_s _ | exact rf_n | exact rf_q _) ?_
    refine wa_iload_n (pc := 52) (y := mJ4_putVal) dJ4_putVal_52 rfl ?_
    refine wa_aloadV_n (pc := 53) (y := mJ4_putVal) dJ4_putVal_53 rfl (by first | exact rf_s _ | exact rf_n | exact rf_q _) ?_
    refine wa_aloadV_n (pc := 54) (y := mJ4_putVal) dJ4_putVal_54 rfl (by first | exact rf_s _ | exact rf_n | exact rf_q _) ?_
    refine wa_null (pc := 55) (y := mJ4_putVal) dJ4_putVal_55 ?_
    refine wa_callW (k := 12) (pc := 56) (owner := "java/util/HashMap") (s_J5_newNode (d := d - 1) (by omega) hm m11 mlo mn hN) dJ4_putVal_56 okJ5_newNode rfl q1587 q1589 (hDc_decl q1597) (by decide) q1590 q1591 (sF_at (by assumption)) rfl rfl rfl rfl (Nat.le_of_ble_eq_true rfl) (Nat.le_of_ble_eq_true rfl) (by omega) ?_
    rintro _ _ - - ⟨rfl, F2, rfl, lo2, n0, n1, n2, n3, -, fr⟩
    refine aft_v (pc2 := 59) ?_ rfl
    have hself : Is (hNew h 13 6) h.1 13 6 := Is.self
    have htb2 : Is (hNew h 13 6) tb 36 (2 ^ k) := htb.new
    obtain ⟨B2, MC, e9, S9, g9⟩ := plain F2 (updF F2 tb bi (.ref h.1)) [h.1] lo2 n0 n1 n2 fr (FrP.refl.upd (Or.inl ⟨rfl, rfl⟩)) (updF_self _ _ _ _) (Or.inl ⟨fun p hp => by simp at hp; rw [hp]; exact hself, (updF_a htn rfl).trans n3, trivial⟩) (by simp) (fun p => by rw [hB]; simp) (fun z hz => by rw [hB] at hz; cases hz)
    refine wf_aastoreV (pc := 59) (y := mJ4_putVal) "java/util/HashMap$Node" dJ4_putVal_59 htb2 (Or.inr ⟨rfl, rfl⟩) (by omega) (rf_s h.1) (fun z hz => by cases hz; exact Nd.stor (Or.inl hself)) ?_
    refine wa_goto (pc := 60) (y := mJ4_putVal) 259 dJ4_putVal_60 rfl ?_
    exact pv_new (by omega) hG MC (S9.mono (by omega) (by omega)) (hno fun z hz => by rw [hB] at hz; cases hz) e9 hl9 hl ((g9 2 (by decide) (by decide)).trans hs) (hmc.imp fun z hz => (g9 3 (by decide) (by decide)).trans hz)
  | cons f C =>
    have hf : (B bi).head? = some f := by rw [hB]; rfl
    have hfB := head_mem hf
    have b19 : F tb bi = .ref f := by rw [b1, hf]; rfl
    have hfns := hsub f hfB
    obtain ⟨fN, ⟨f0, fq, f1, fK⟩, f2⟩ := mN f hfns
    have fκ := fK.2.2.2
    have h104 : ∀ v11 v12 : Value, v11.category = 1 → kF F f ≠ x → WA G d mJ4_putVal 104 [.ref m, .int (Int32.ofNat x), .ref q, .ref vv, .int 0, .int ev, .ref tb, .ref f, .int (Int32.ofNat (2 ^ k)), .int (Int32.ofNat bi), v10, v11, v12] [] (sF h F) (PtQ m h F ns k x vv) := by
      intro v11 v12 c11 hfx
      rcases b2 with lb | tbn
      · have hI13 : ∀ z, z ∈ B bi → Is h z 13 6 := fun z hz => lb.1 z hz
        have hfI := hI13 f hfB
        have loop : ∀ (rest a : List Nat) (p : Nat) (v10 v11 : Value), v10.category = 1 → v11.category = 1 → a ++ p :: rest = B bi → (∀ z, z ∈ a ++ [p] → kF F z ≠ x) →
            WA G d mJ4_putVal 134 [.ref m, .int (Int32.ofNat x), .ref q, .ref vv, .int 0, .int ev, .ref tb, .ref p, .int (Int32.ofNat (2 ^ k)), .int (Int32.ofNat bi), v10, v11, .int (Int32.ofNat a.length)] [] (sF h F) (PtQ m h F ns k x vv) := by
          intro rest
          induction rest with
          | nil =>
            intro a p v10 v11 c10 c11 ha hno9
            have hpB : p ∈ B bi := by rw [← ha]; simp
            have hpI := hI13 p hpB
            have hpN : Nd h p := Or.inl hpI
            have p3 : F p 3 = va_rf none := by have := lb.2; rw [← ha] at this; exact ChE.mem this
            have hpl : p ≠ h.1 := by have := hpI.lt; omega
            have hptb : p ≠ tb := (hne9.2 p (hsub p hpB)).2
            have halen : a.length ≤ ns.length := nodup_len (by rw [← ha] at b3; exact (List.nodup_append.mp b3).1) fun z hz => hsub z (by rw [← ha]; simp [hz])
            refine wa_aloadV (pc := 134) (y := mJ4_putVal) dJ4_putVal_134 rfl (by first | exact rf_s _ | exact rf_n | exact rf_q _) ?_
            refine wn_get 3 dJ4_putVal_136 (by assumption) q1337 (Or.inl rfl) (Nat.le_of_ble_eq_true rfl) (by (repeat (first | exact updF_self _ _ _ _ | (apply updF_i; · decide) | (apply updF_a; · first | assumption | (apply Ne.symm; assumption) | omega) | (apply newF_a; · first | assumption | (apply Ne.symm; assumption) | omega) | exact newL_self (by rfl) | exact newF_self (by rfl) | (apply cpyF_a; · first | assumption | (apply Ne.symm; assumption) | omega))) <;> first | assumption | rfl) ?_
            refine wa_dup (pc := 139) (y := mJ4_putVal) dJ4_putVal_139 (by first | rfl | exact rf_cat _) ?_
            refine wa_astoreV (pc := 140) (y := mJ4_putVal) dJ4_putVal_140 (Nat.le_of_ble_eq_true rfl) (by first | rfl | (simp [okst, rf_cat] <;> assumption)) (by first | exact rf_s _ | exact rf_n | exact rf_q _) ?_
            simp only [List.set_cons_zero, List.set_cons_succ]
            refine wa_ifnonnullN (pc := 142) (y := mJ4_putVal) dJ4_putVal_142 ?_
            refine wa_aloadV (pc := 145) (y := mJ4_putVal) dJ4_putVal_145 rfl (by first | exact rf_s _ | exact rf_n | exact rf_q _) ?_
            refine wa_aloadV_n (pc := 147) (y := mJ4_putVal) dJ4_putVal_147 rfl (by first | exact rf_s _ | exact rf_n | exact rf_q _) ?_
            refine wa_iload_n (pc := 148) (y := mJ4_putVal) dJ4_putVal_148 rfl ?_
            refine wa_aloadV_n (pc := 149) (y := mJ4_putVal) dJ4_putVal_149 rfl (by first | exact rf_s _ | exact rf_n | exact rf_q _) ?_
            refine wa_aloadV_n (pc := 150) (y := mJ4_putVal) dJ4_putVal_150 rfl (by first | exact rf_s _ | exact rf_n | exact rf_q _) ?_
            refine wa_null (pc := 151) (y := mJ4_putVal) dJ4_putVal_151 ?_
            refine wa_callW (k := 12) (pc := 152) (owner := "java/util/HashMap") (s_J5_newNode (d := d - 1) (by omega) hm m11 mlo mn hN) dJ4_putVal_152 okJ5_newNode rfl q1587 q1589 (hDc_decl q1597) (by decide) q1590 q1591 (sF_at (by assumption)) rfl rfl rfl rfl (Nat.le_of_ble_eq_true rfl) (Nat.le_of_ble_eq_true rfl) (by omega) ?_
            rintro _ _ - - ⟨rfl, F2, rfl, lo2, n0, n1, n2, n3, -, fr⟩
            refine aft_v (pc2 := 155) ?_ rfl
            have hm13 : Is (hNew h 13 6) m 12 12 := hm.new
            have hself : Is (hNew h 13 6) h.1 13 6 := Is.self
            have htb2 : Is (hNew h 13 6) tb 36 (2 ^ k) := htb.new
            have hpN2 : Nd (hNew h 13 6) p := hpN.new
            have f23 : ∀ z, z ∈ B bi → F2 z 3 = F z 3 := fun z hz => fr z 3 (fun e => hnB (e ▸ hz)) (fun e => by omega) (fun e => by omega)
            obtain ⟨B2, MC, e9, S9, g9⟩ := plain F2 (updF F2 p 3 (.ref h.1)) (B bi ++ [h.1]) lo2 n0 n1 n2 fr (FrP.refl.upd (Or.inr ⟨hpB, rfl⟩)) ((updF_a (Ne.symm hptb) rfl).trans ((fr tb bi (Ne.symm htn) (fun e => htm e.1) (fun e => (hne9.2 tb e.1).2 rfl)).trans (by rw [b1, List.head?_append, hf]; rfl))) (Or.inl ⟨fun z hz => by rcases List.mem_append.mp hz with hz | hz; exact (hI13 z hz).new; (simp at hz; rw [hz]; exact hself), ChE_add (t := none) (F := F2) (List.nodup_append.mpr ⟨b3, by simp, fun z hz w hw e => by simp at hw; exact hnB (hw ▸ e ▸ hz)⟩) (ChE_congr (fun z hz => f23 z hz) lb.2) (fun z hz => if ez : z = p then by subst ez; rw [updF_self, if_pos (by rw [← ha]; simp)] else by rw [updF_a ez rfl, if_neg (fun e => ez (by rw [← ha] at e; simp at e; exact e.symm))]) ((updF_a (Ne.symm hpl) rfl).trans n3)⟩) (List.nodup_append.mpr ⟨b3, by simp, fun z hz w hw e => by simp at hw; exact hnB (hw ▸ e ▸ hz)⟩) (fun z => by simp) (fun z hz => hno9 z (by rw [← ha] at hz; exact hz))
            have hno8 : ∀ z, z ∈ ns → kF F z ≠ x := hno fun z hz => hno9 z (by rw [← ha] at hz; exact hz)
            have hlen9 : (ns ++ [h.1]).length ≤ 96 := by simp; omega
            refine wn_put 3 (.object "java/util/HashMap$Node") dJ4_putVal_155 (by assumption) q1337 (Or.inl rfl) (Nat.le_of_ble_eq_true rfl) rfl (by decide +kernel) (by first | rfl | exact rf_nar _ | exact rf_nar2 _) (by first | rfl | exact rf_fit _ | exact rf_fit2 _) ?_
            refine wa_iload (pc := 158) (y := mJ4_putVal) dJ4_putVal_158 rfl ?_
            refine wa_bipush (pc := 160) (y := mJ4_putVal) (Int32.ofNat 7) dJ4_putVal_160 rfl ?_
            refine wa_icmp_lt (pc := 162) 222 dJ4_putVal_162 rfl (fun hb162 => ?_) (fun hb162 => ?_)
            · refine wa_aloadV (pc := 222) (y := mJ4_putVal) dJ4_putVal_222 rfl (by first | exact rf_s _ | exact rf_n | exact rf_q _) ?_
              refine wa_ifnullN (pc := 224) (y := mJ4_putVal) 259 dJ4_putVal_224 rfl ?_
              first | exact pv_new (by omega) hG MC (S9.mono (by omega) (by omega)) hno8 e9 hl9 hl ((g9 2 (by decide) (by decide)).trans hs) (hmc.imp fun z hz => (g9 3 (by decide) (by decide)).trans hz) | exact pv_new (by omega) hG MC7 ((S9.trans x5).mono (by omega) (by omega)) hno8 (x4.trans e9) hl9 (Nat.le_trans hl (thr_mono x5.2.1.1)) (x6.trans ((g9 2 (by decide) (by decide)).trans hs)) (hmc.imp fun z hz => x7.trans ((g9 3 (by decide) (by decide)).trans hz))
            · refine wa_aloadV_n (pc := 165) (y := mJ4_putVal) dJ4_putVal_165 rfl (by first | exact rf_s _ | exact rf_n | exact rf_q _) ?_
              refine wa_aloadV (pc := 166) (y := mJ4_putVal) dJ4_putVal_166 rfl (by first | exact rf_s _ | exact rf_n | exact rf_q _) ?_
              refine wa_iload_n (pc := 168) (y := mJ4_putVal) dJ4_putVal_168 rfl ?_
              refine wa_callW (k := 12) (pc := 169) (owner := "java/util/HashMap") (s_J4_treeifyBin (d := d - 1) (by omega) hG MC hk1.2 hlen9 hx) dJ4_putVal_169 okJ4_treeifyBin rfl q1638 q1640 (hDc_code q1639 q1642) (by decide) q1641 q1639 (sF_at (by assumption)) rfl rfl rfl rfl (Nat.le_of_ble_eq_true rfl) (Nat.le_of_ble_eq_true rfl) (by omega) ?_
              rintro _ _ - - ⟨rfl, Z⟩
              obtain ⟨h7, F7, tb7, k7, ns7, B7, rfl, MC7, x3, x4, x5, x6, x7⟩ := Z.step
              refine aft_0 (pc2 := 172) ?_ rfl
              refine wa_goto (pc := 172) (y := mJ4_putVal) 222 dJ4_putVal_172 rfl ?_
              refine wa_aloadV (pc := 222) (y := mJ4_putVal) dJ4_putVal_222 rfl (by first | exact rf_s _ | exact rf_n | exact rf_q _) ?_
              refine wa_ifnullN (pc := 224) (y := mJ4_putVal) 259 dJ4_putVal_224 rfl ?_
              first | exact pv_new (by omega) hG MC (S9.mono (by omega) (by omega)) hno8 e9 hl9 hl ((g9 2 (by decide) (by decide)).trans hs) (hmc.imp fun z hz => (g9 3 (by decide) (by decide)).trans hz) | exact pv_new (by omega) hG MC7 ((S9.trans x5).mono (by omega) (by omega)) hno8 (x4.trans e9) hl9 (Nat.le_trans hl (thr_mono x5.2.1.1)) (x6.trans ((g9 2 (by decide) (by decide)).trans hs)) (hmc.imp fun z hz => x7.trans ((g9 3 (by decide) (by decide)).trans hz))
          | cons e rest ih =>
            intro a p v10 v11 c10 c11 ha hno9
            have hpB : p ∈ B bi := by rw [← ha]; simp
            have heB : e ∈ B bi := by rw [← ha]; simp
            have hpI := hI13 p hpB
            have hpN : Nd h p := Or.inl hpI
            have p3 : F p 3 = va_rf (some e) := by have := lb.2; rw [← ha] at this; exact ChE.mem this
            have hens := hsub e heB
            obtain ⟨eN, ⟨e0, eq, e1, eK⟩, e2⟩ := mN e hens
            have eκ := eK.2.2.2
            have ha2 : (a ++ [p]) ++ e :: rest = B bi := by rw [← ha]; simp
            refine wa_aloadV (pc := 134) (y := mJ4_putVal) dJ4_putVal_134 rfl (by first | exact rf_s _ | exact rf_n | exact rf_q _) ?_
            refine wn_get 3 dJ4_putVal_136 (by assumption) q1337 (Or.inl rfl) (Nat.le_of_ble_eq_true rfl) (by (repeat (first | exact updF_self _ _ _ _ | (apply updF_i; · decide) | (apply updF_a; · first | assumption | (apply Ne.symm; assumption) | omega) | (apply newF_a; · first | assumption | (apply Ne.symm; assumption) | omega) | exact newL_self (by rfl) | exact newF_self (by rfl) | (apply cpyF_a; · first | assumption | (apply Ne.symm; assumption) | omega))) <;> first | assumption | rfl) ?_
            refine wa_dup (pc := 139) (y := mJ4_putVal) dJ4_putVal_139 (by first | rfl | exact rf_cat _) ?_
            refine wa_astoreV (pc := 140) (y := mJ4_putVal) dJ4_putVal_140 (Nat.le_of_ble_eq_true rfl) (by first | rfl | (simp [okst, rf_cat] <;> assumption)) (by first | exact rf_s _ | exact rf_n | exact rf_q _) ?_
            simp only [List.set_cons_zero, List.set_cons_succ]
            refine wa_ifnonnull (pc := 142) (y := mJ4_putVal) 175 dJ4_putVal_142 rfl ?_
            refine wa_aloadV (pc := 175) (y := mJ4_putVal) dJ4_putVal_175 rfl (by first | exact rf_s _ | exact rf_n | exact rf_q _) ?_
            refine wn_get 0 dJ4_putVal_177 (by assumption) q1319 (Or.inl rfl) (Nat.le_of_ble_eq_true rfl) (by (repeat (first | exact updF_self _ _ _ _ | (apply updF_i; · decide) | (apply updF_a; · first | assumption | (apply Ne.symm; assumption) | omega) | (apply newF_a; · first | assumption | (apply Ne.symm; assumption) | omega) | exact newL_self (by rfl) | exact newF_self (by rfl) | (apply cpyF_a; · first | assumption | (apply Ne.symm; assumption) | omega))) <;> first | assumption | rfl) ?_
            refine wa_iload_n (pc := 180) (y := mJ4_putVal) dJ4_putVal_180 rfl ?_
            refine wa_icmp_ne (pc := 181) 212 dJ4_putVal_181 rfl (fun hb181 => ?_) (fun hb181 => ?_)
            · have hex : kF F e ≠ x := fun e9 => hb181 (by rw [e9])
              refine wa_aloadV (pc := 212) (y := mJ4_putVal) dJ4_putVal_212 rfl (by first | exact rf_s _ | exact rf_n | exact rf_q _) ?_
              refine wa_astoreV (pc := 214) (y := mJ4_putVal) dJ4_putVal_214 (Nat.le_of_ble_eq_true rfl) (by first | rfl | (simp [okst, rf_cat] <;> assumption)) (by first | exact rf_s _ | exact rf_n | exact rf_q _) ?_
              simp only [List.set_cons_zero, List.set_cons_succ]
              refine wa_iincN (pc := 216) (y := mJ4_putVal) dJ4_putVal_216 rfl (Nat.le_of_ble_eq_true rfl) (by first | rfl | (simp [okst, rf_cat] <;> assumption)) ?_
              simp only [List.set_cons_zero, List.set_cons_succ]
              refine wa_goto (pc := 219) (y := mJ4_putVal) 134 dJ4_putVal_219 rfl ?_
              (have K9 := ih (a ++ [p]) e (.ref e) v11 rfl c11 ha2 (fun z hz => by rcases List.mem_append.mp hz with hz | hz; exact hno9 z hz; (simp at hz; rw [hz]; exact hex)); rw [List.length_append] at K9; exact K9)
            · have hex := (iN_eq (by omega) (by omega)).mp hb181
              refine wa_aloadV (pc := 184) (y := mJ4_putVal) dJ4_putVal_184 rfl (by first | exact rf_s _ | exact rf_n | exact rf_q _) ?_
              refine wn_get 1 dJ4_putVal_186 (by assumption) q1326 (Or.inl rfl) (Nat.le_of_ble_eq_true rfl) (by (repeat (first | exact updF_self _ _ _ _ | (apply updF_i; · decide) | (apply updF_a; · first | assumption | (apply Ne.symm; assumption) | omega) | (apply newF_a; · first | assumption | (apply Ne.symm; assumption) | omega) | exact newL_self (by rfl) | exact newF_self (by rfl) | (apply cpyF_a; · first | assumption | (apply Ne.symm; assumption) | omega))) <;> first | assumption | rfl) ?_
              refine wa_dup (pc := 189) (y := mJ4_putVal) dJ4_putVal_189 (by first | rfl | exact rf_cat _) ?_
              refine wa_astoreV (pc := 190) (y := mJ4_putVal) dJ4_putVal_190 (Nat.le_of_ble_eq_true rfl) (by first | rfl | (simp [okst, rf_cat] <;> assumption)) (by first | exact rf_s _ | exact rf_n | exact rf_q _) ?_
              simp only [List.set_cons_zero, List.set_cons_succ]
              refine wa_aloadV_n (pc := 192) (y := mJ4_putVal) dJ4_putVal_192 rfl (by first | exact rf_s _ | exact rf_n | exact rf_q _) ?_
              refine wa_aceqV (pc := 193) 222 dJ4_putVal_193 rfl (by first | exact rf_s _ | exact rf_n | exact rf_q _) (by first | exact rf_s _ | exact rf_n | exact rf_q _) (fun hb193 => ?_) (fun hb193 => ?_)
              · exact pv_222 (by omega) MR M9.tk hens hex rfl
              · refine wa_aloadV_n (pc := 196) (y := mJ4_putVal) dJ4_putVal_196 rfl (by first | exact rf_s _ | exact rf_n | exact rf_q _) ?_
                refine wa_ifnull (pc := 197) (y := mJ4_putVal) dJ4_putVal_197 ?_
                refine wa_aloadV_n (pc := 200) (y := mJ4_putVal) dJ4_putVal_200 rfl (by first | exact rf_s _ | exact rf_n | exact rf_q _) ?_
                refine wa_aloadV (pc := 201) (y := mJ4_putVal) dJ4_putVal_201 rfl (by first | exact rf_s _ | exact rf_n | exact rf_q _) ?_
                refine wa_callW (k := 4) (pc := 203) (owner := "java/lang/Object") (s_X5_equals (d := d - 1) K eK) dJ4_putVal_203 okX5_equals rfl q844 q846 (hDc_code q845 q878) (by decide) q853 q854 (sF_at (by assumption)) rfl rfl rfl rfl (Nat.le_of_ble_eq_true rfl) (Nat.le_of_ble_eq_true rfl) (by omega) ?_
                rintro _ _ - - ⟨rfl, rfl⟩
                refine aft_v (pc2 := 206) ?_ rfl
                refine wa_if_eq (pc := 206) 212 dJ4_putVal_206 rfl (fun hb206 => absurd (bI_0.mp hb206) (by simp; omega)) (fun hb206 => ?_)
                refine wa_goto (pc := 209) (y := mJ4_putVal) 222 dJ4_putVal_209 rfl ?_
                exact pv_222 (by omega) MR M9.tk hens hex rfl
        refine wa_aloadV (pc := 104) (y := mJ4_putVal) dJ4_putVal_104 rfl (by first | exact rf_s _ | exact rf_n | exact rf_q _) ?_
        refine wa_instNo (pc := 106) (y := mJ4_putVal) (k := 13) dJ4_putVal_106 (sF_at (by assumption)) rfl q879 (by decide +kernel) ?_
        refine wa_if_eq (pc := 109) 131 dJ4_putVal_109 rfl (fun hb109 => ?_) (fun hb109 => absurd rfl hb109)
        refine wa_iconst (pc := 131) (y := mJ4_putVal) (Int32.ofNat 0) dJ4_putVal_131 rfl ?_
        refine wa_istore (pc := 132) (y := mJ4_putVal) dJ4_putVal_132 (Nat.le_of_ble_eq_true rfl) (by first | rfl | (simp [okst, rf_cat] <;> assumption)) ?_
        simp only [List.set_cons_zero, List.set_cons_succ]
        exact loop C [] f v10 v11 c10 c11 hB.symm (fun z hz => by simp at hz; rw [hz]; exact hfx)
      · have hfI := tbn.is hfB
        have hI14 : ∀ z, z ∈ B bi → Is h z 14 11 := fun z hz => tbn.is hz
        by_cases hex : ∃ z, z ∈ B bi ∧ kF F z = x
        · refine wa_aloadV (pc := 104) (y := mJ4_putVal) dJ4_putVal_104 rfl (by first | exact rf_s _ | exact rf_n | exact rf_q _) ?_
          refine wa_instS (pc := 106) (y := mJ4_putVal) (k := 14) dJ4_putVal_106 (sF_at (by assumption)) rfl q879 ?_
          refine wa_if_eq (pc := 109) 131 dJ4_putVal_109 rfl (fun hb109 => absurd hb109 (by decide)) (fun hb109 => ?_)
          refine wa_aloadV (pc := 112) (y := mJ4_putVal) dJ4_putVal_112 rfl (by first | exact rf_s _ | exact rf_n | exact rf_q _) ?_
          refine wa_castS (pc := 114) (y := mJ4_putVal) (k := 14) dJ4_putVal_114 (sF_at (by assumption)) rfl q879 ?_
          refine wa_aloadV_n (pc := 117) (y := mJ4_putVal) dJ4_putVal_117 rfl (by first | exact rf_s _ | exact rf_n | exact rf_q _) ?_
          refine wa_aloadV (pc := 118) (y := mJ4_putVal) dJ4_putVal_118 rfl (by first | exact rf_s _ | exact rf_n | exact rf_q _) ?_
          refine wa_iload_n (pc := 120) (y := mJ4_putVal) dJ4_putVal_120 rfl ?_
          refine wa_aloadV_n (pc := 121) (y := mJ4_putVal) dJ4_putVal_121 rfl (by first | exact rf_s _ | exact rf_n | exact rf_q _) ?_
          refine wa_aloadV_n (pc := 122) (y := mJ4_putVal) dJ4_putVal_122 rfl (by first | exact rf_s _ | exact rf_n | exact rf_q _) ?_
          refine wa_callV (pc := 123) (s_J26_putTreeVal (d := d - 1) (B := B bi) (κ := kF F) (bi := bi) (by omega) hG hm m11 mlo mn hN htb (by omega) hB b3 hsub hI14 (fun z hz => (mN z (hsub z hz)).2.1) (fun p q hp hq => minj p q (hsub p hp) (hsub q hq)) (fun z hz => ((b4 z).mp hz).2) b1 tbn K hbi) dJ4_putVal_123 okJ26_putTreeVal q1598 q1599 q1600 (sF_at (by assumption)) rfl rfl rfl (Nat.le_of_ble_eq_true rfl) (Nat.le_of_ble_eq_true rfl) (by omega) ?_
          rintro _ _ - - Z
          obtain ⟨z, hz, zx, rfl, rfl⟩ := Z.resolve_right fun h9 => by obtain ⟨z, hz, e⟩ := hex; exact h9.1 z hz e
          refine aft_v (pc2 := 126) ?_ rfl
          refine wa_astoreV (pc := 126) (y := mJ4_putVal) dJ4_putVal_126 (Nat.le_of_ble_eq_true rfl) (by first | rfl | (simp [okst, rf_cat] <;> assumption)) (by first | exact rf_s _ | exact rf_n | exact rf_q _) ?_
          simp only [List.set_cons_zero, List.set_cons_succ]
          refine wa_goto (pc := 128) (y := mJ4_putVal) 222 dJ4_putVal_128 rfl ?_
          exact pv_222 (by omega) MR M9.tk (hsub z hz) zx c11
        · have hno9 : ∀ z, z ∈ B bi → kF F z ≠ x := fun z hz e => hex ⟨z, hz, e⟩
          refine wa_aloadV (pc := 104) (y := mJ4_putVal) dJ4_putVal_104 rfl (by first | exact rf_s _ | exact rf_n | exact rf_q _) ?_
          refine wa_instS (pc := 106) (y := mJ4_putVal) (k := 14) dJ4_putVal_106 (sF_at (by assumption)) rfl q879 ?_
          refine wa_if_eq (pc := 109) 131 dJ4_putVal_109 rfl (fun hb109 => absurd hb109 (by decide)) (fun hb109 => ?_)
          refine wa_aloadV (pc := 112) (y := mJ4_putVal) dJ4_putVal_112 rfl (by first | exact rf_s _ | exact rf_n | exact rf_q _) ?_
          refine wa_castS (pc := 114) (y := mJ4_putVal) (k := 14) dJ4_putVal_114 (sF_at (by assumption)) rfl q879 ?_
          refine wa_aloadV_n (pc := 117) (y := mJ4_putVal) dJ4_putVal_117 rfl (by first | exact rf_s _ | exact rf_n | exact rf_q _) ?_
          refine wa_aloadV (pc := 118) (y := mJ4_putVal) dJ4_putVal_118 rfl (by first | exact rf_s _ | exact rf_n | exact rf_q _) ?_
          refine wa_iload_n (pc := 120) (y := mJ4_putVal) dJ4_putVal_120 rfl ?_
          refine wa_aloadV_n (pc := 121) (y := mJ4_putVal) dJ4_putVal_121 rfl (by first | exact rf_s _ | exact rf_n | exact rf_q _) ?_
          refine wa_aloadV_n (pc := 122) (y := mJ4_putVal) dJ4_putVal_122 rfl (by first | exact rf_s _ | exact rf_n | exact rf_q _) ?_
          refine wa_callV (pc := 123) (s_J26_putTreeVal (d := d - 1) (B := B bi) (κ := kF F) (bi := bi) (by omega) hG hm m11 mlo mn hN htb (by omega) hB b3 hsub hI14 (fun z hz => (mN z (hsub z hz)).2.1) (fun p q hp hq => minj p q (hsub p hp) (hsub q hq)) (fun z hz => ((b4 z).mp hz).2) b1 tbn K hbi) dJ4_putVal_123 okJ26_putTreeVal q1598 q1599 q1600 (sF_at (by assumption)) rfl rfl rfl (Nat.le_of_ble_eq_true rfl) (Nat.le_of_ble_eq_true rfl) (by omega) ?_
          rintro _ _ - - Z
          obtain ⟨-, rfl, F2, L2, rfl, c1, c2, c3, c4, lo2, n0, n1, n2, fr⟩ := Z.resolve_left fun ⟨z, hz, e, _⟩ => hno9 z hz e
          refine aft_v (pc2 := 126) ?_ rfl
          refine wa_astoreV (pc := 126) (y := mJ4_putVal) dJ4_putVal_126 (Nat.le_of_ble_eq_true rfl) (by first | rfl | (simp [okst, rf_cat] <;> assumption)) (by first | exact rf_s _ | exact rf_n | exact rf_q _) ?_
          simp only [List.set_cons_zero, List.set_cons_succ]
          refine wa_goto (pc := 128) (y := mJ4_putVal) 222 dJ4_putVal_128 rfl ?_
          refine wa_aloadV (pc := 222) (y := mJ4_putVal) dJ4_putVal_222 rfl (by first | exact rf_s _ | exact rf_n | exact rf_q _) ?_
          refine wa_ifnullN (pc := 224) (y := mJ4_putVal) 259 dJ4_putVal_224 rfl ?_
          skip
          obtain ⟨B2, MC, e9, S9, g9⟩ := M9.add (Or.inr ⟨rfl, rfl⟩) K (hno hno9) hbi lo2 n0 n1 n2 c3 (Or.inr (c4.congr Ext.refl (fun z hz => by
            by_cases ez : z = h.1
            · rw [ez, show upo (kF F) h.1 x h.1 = x from if_pos rfl]; exact kF_of n0 (by omega)
            · have hzB := ((c1 z).mp hz).resolve_right ez
              have hzn := hsub z hzB
              rw [show upo (kF F) h.1 x z = kF F z from if_neg ez]
              exact kF_congr (fr z 0 ez (fun e => (hne9.2 z hzn).2 e.1) (fun e => by omega) (fun e => (hne9.2 z hzn).1 e.1) (fun e => by omega))) fun _ _ _ _ => rfl)) c2 c1 fr
          exact pv_new (by omega) hG MC (S9.mono (by omega) (by omega)) (hno hno9) e9 hl9 hl ((g9 2 (by decide) (by decide)).trans hs) (hmc.imp fun z hz => (g9 3 (by decide) (by decide)).trans hz)
    refine wa_aloadV (pc := 29) (y := mJ4_putVal) dJ4_putVal_29 rfl (by first | exact rf_s _ | exact rf_n | exact rf_q _) ?_
    refine wa_iload (pc := 31) (y := mJ4_putVal) dJ4_putVal_31 rfl ?_
    refine wa_iconst (pc := 33) (y := mJ4_putVal) (Int32.ofNat 1) dJ4_putVal_33 rfl ?_
    refine wa_isub (pc := 34) (y := mJ4_putVal) dJ4_putVal_34 ?_
    rw [iN_sub (by omega)]
    refine wa_iload_n (pc := 35) (y := mJ4_putVal) dJ4_putVal_35 rfl ?_
    refine wa_iand (pc := 36) (y := mJ4_putVal) dJ4_putVal_36 ?_
    rw [iN_and, and_mod, hbi]
    refine wa_dup (pc := 37) (y := mJ4_putVal) dJ4_putVal_37 (by first | rfl | exact rf_cat _) ?_
    refine wa_istore (pc := 38) (y := mJ4_putVal) dJ4_putVal_38 (Nat.le_of_ble_eq_true rfl) (by first | rfl | (simp [okst, rf_cat] <;> assumption)) ?_
    simp only [List.set_cons_zero, List.set_cons_succ]
    refine wf_aaload dJ4_putVal_40 (by assumption) (by first | exact Or.inl rfl | exact Or.inr rfl) (by omega) (by (repeat (first | exact updF_self _ _ _ _ | (apply updF_i; · decide) | (apply updF_a; · first | assumption | (apply Ne.symm; assumption) | omega) | (apply newF_a; · first | assumption | (apply Ne.symm; assumption) | omega) | exact newL_self (by rfl) | exact newF_self (by rfl) | (apply cpyF_a; · first | assumption | (apply Ne.symm; assumption) | omega))) <;> first | assumption | rfl) ?_
    refine wa_dup (pc := 41) (y := mJ4_putVal) dJ4_putVal_41 (by first | rfl | exact rf_cat _) ?_
    refine wa_astoreV (pc := 42) (y := mJ4_putVal) dJ4_putVal_42 (Nat.le_of_ble_eq_true rfl) (by first | rfl | (simp [okst, rf_cat] <;> assumption)) (by first | exact rf_s _ | exact rf_n | exact rf_q _) ?_
    simp only [List.set_cons_zero, List.set_cons_succ]
    refine wa_ifnonnull (pc := 44) (y := mJ4_putVal) 63 dJ4_putVal_44 rfl ?_
    refine wa_aloadV (pc := 63) (y := mJ4_putVal) dJ4_putVal_63 rfl (by first | exact rf_s _ | exact rf_n | exact rf_q _) ?_
    refine wn_get 0 dJ4_putVal_65 (by assumption) q1319 (Or.inl rfl) (Nat.le_of_ble_eq_true rfl) (by (repeat (first | exact updF_self _ _ _ _ | (apply updF_i; · decide) | (apply updF_a; · first | assumption | (apply Ne.symm; assumption) | omega) | (apply newF_a; · first | assumption | (apply Ne.symm; assumption) | omega) | exact newL_self (by rfl) | exact newF_self (by rfl) | (apply cpyF_a; · first | assumption | (apply Ne.symm; assumption) | omega))) <;> first | assumption | rfl) ?_
    refine wa_iload_n (pc := 68) (y := mJ4_putVal) dJ4_putVal_68 rfl ?_
    refine wa_icmp_ne (pc := 69) 104 dJ4_putVal_69 rfl (fun hb69 => ?_) (fun hb69 => ?_)
    · have hfx : kF F f ≠ x := fun e => hb69 (by rw [e])
      exact h104 _ _ c11 hfx
    · have hfx := (iN_eq (by omega) (by omega)).mp hb69
      refine wa_aloadV (pc := 72) (y := mJ4_putVal) dJ4_putVal_72 rfl (by first | exact rf_s _ | exact rf_n | exact rf_q _) ?_
      refine wn_get 1 dJ4_putVal_74 (by assumption) q1326 (Or.inl rfl) (Nat.le_of_ble_eq_true rfl) (by (repeat (first | exact updF_self _ _ _ _ | (apply updF_i; · decide) | (apply updF_a; · first | assumption | (apply Ne.symm; assumption) | omega) | (apply newF_a; · first | assumption | (apply Ne.symm; assumption) | omega) | exact newL_self (by rfl) | exact newF_self (by rfl) | (apply cpyF_a; · first | assumption | (apply Ne.symm; assumption) | omega))) <;> first | assumption | rfl) ?_
      refine wa_dup (pc := 77) (y := mJ4_putVal) dJ4_putVal_77 (by first | rfl | exact rf_cat _) ?_
      refine wa_astoreV (pc := 78) (y := mJ4_putVal) dJ4_putVal_78 (Nat.le_of_ble_eq_true rfl) (by first | rfl | (simp [okst, rf_cat] <;> assumption)) (by first | exact rf_s _ | exact rf_n | exact rf_q _) ?_
      simp only [List.set_cons_zero, List.set_cons_succ]
      refine wa_aloadV_n (pc := 80) (y := mJ4_putVal) dJ4_putVal_80 rfl (by first | exact rf_s _ | exact rf_n | exact rf_q _) ?_
      refine wa_aceqV (pc := 81) 97 dJ4_putVal_81 rfl (by first | exact rf_s _ | exact rf_n | exact rf_q _) (by first | exact rf_s _ | exact rf_n | exact rf_q _) (fun hb81 => ?_) (fun hb81 => ?_)
      · refine wa_aloadV (pc := 97) (y := mJ4_putVal) dJ4_putVal_97 rfl (by first | exact rf_s _ | exact rf_n | exact rf_q _) ?_
        refine wa_astoreV (pc := 99) (y := mJ4_putVal) dJ4_putVal_99 (Nat.le_of_ble_eq_true rfl) (by first | rfl | (simp [okst, rf_cat] <;> assumption)) (by first | exact rf_s _ | exact rf_n | exact rf_q _) ?_
        simp only [List.set_cons_zero, List.set_cons_succ]
        refine wa_goto (pc := 101) (y := mJ4_putVal) 222 dJ4_putVal_101 rfl ?_
        exact pv_222 (by omega) MR M9.tk hfns hfx rfl
      · refine wa_aloadV_n (pc := 84) (y := mJ4_putVal) dJ4_putVal_84 rfl (by first | exact rf_s _ | exact rf_n | exact rf_q _) ?_
        refine wa_ifnull (pc := 85) (y := mJ4_putVal) dJ4_putVal_85 ?_
        refine wa_aloadV_n (pc := 88) (y := mJ4_putVal) dJ4_putVal_88 rfl (by first | exact rf_s _ | exact rf_n | exact rf_q _) ?_
        refine wa_aloadV (pc := 89) (y := mJ4_putVal) dJ4_putVal_89 rfl (by first | exact rf_s _ | exact rf_n | exact rf_q _) ?_
        refine wa_callW (k := 4) (pc := 91) (owner := "java/lang/Object") (s_X5_equals (d := d - 1) K fK) dJ4_putVal_91 okX5_equals rfl q844 q846 (hDc_code q845 q878) (by decide) q853 q854 (sF_at (by assumption)) rfl rfl rfl rfl (Nat.le_of_ble_eq_true rfl) (Nat.le_of_ble_eq_true rfl) (by omega) ?_
        rintro _ _ - - ⟨rfl, rfl⟩
        refine aft_v (pc2 := 94) ?_ rfl
        refine wa_if_eq (pc := 94) 104 dJ4_putVal_94 rfl (fun hb94 => absurd (bI_0.mp hb94) (by simp; omega)) (fun hb94 => ?_)
        refine wa_aloadV (pc := 97) (y := mJ4_putVal) dJ4_putVal_97 rfl (by first | exact rf_s _ | exact rf_n | exact rf_q _) ?_
        refine wa_astoreV (pc := 99) (y := mJ4_putVal) dJ4_putVal_99 (Nat.le_of_ble_eq_true rfl) (by first | rfl | (simp [okst, rf_cat] <;> assumption)) (by first | exact rf_s _ | exact rf_n | exact rf_q _) ?_
        simp only [List.set_cons_zero, List.set_cons_succ]
        refine wa_goto (pc := 101) (y := mJ4_putVal) 222 dJ4_putVal_101 rfl ?_
        exact pv_222 (by omega) MR M9.tk hfns hfx rfl
end PUT4
