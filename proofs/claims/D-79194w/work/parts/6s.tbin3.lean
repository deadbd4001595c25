/-! ===== treeifyBin: the whole ===== -/
section TBN3
variable {G : GG} {d n : Nat} {h h1 h2 h3 : AH} {F F1 F2 F3 : Nat → Nat → Value} {ρ ρ1 : Nat → Nat} {l m p q x k tb bi i j c s : Nat} {ns a b A D : List Nat} {B : Nat → List Nat}
theorem ReQ.refl (M : MapC h F m tb k ns B) (hk : k ≤ 8) : ReQ c s h F m ns k (sF h F) :=
  ⟨h, F, tb, k, ns, B, rfl, M, Nat.le_refl _, by omega, hk, rfl, Fr.refl, by omega, fun z hz => Or.inl hz, Or.inl rfl, fun _ _ => rfl⟩
theorem s_J4_treeifyBin (hd : 8 ≤ d) (hG : StG G) (M : MapC h F m tb k ns B) (hk : k ≤ 8) (hlen : ns.length ≤ 96) (hx : x < 1200) :
    MA G d mJ4_treeifyBin [.ref m, .ref tb, .int (Int32.ofNat x)] (sF h F) (fun r h' => r = .inl none ∧ ReQ 19 209 h F m ns k h') := by
  have M9 := M
  have hne9 := M.ne
  obtain ⟨hm, m5, m10, m11, mlo, mn, mN, minj, mv, t1, ⟨htb, tB⟩, hk1, m4⟩ := M
  have hk2 : 2 ^ k < 2 ^ 9 := Nat.pow_lt_pow_right (by decide) (by omega)
  have hk0 : 0 < 2 ^ k := Nat.two_pow_pos k
  change WA G d mJ4_treeifyBin 0 [.ref m, .ref tb, .int (Int32.ofNat x), .retAddr 0, .retAddr 0, .retAddr 0, .retAddr 0, .retAddr 0, .retAddr 0] [] _ _
  rcases Nat.lt_or_ge k 6 with hk6 | hk6
  · have h64 : 2 ^ k < 2 ^ 6 := Nat.pow_lt_pow_right (by decide) hk6
    refine wa_aloadV_n (pc := 0) (y := mJ4_treeifyBin) dJ4_treeifyBin_0 rfl (by first | exact rf_s _ | exact rf_n | exact rf_q _) ?_
    refine wa_ifnull (pc := 1) (y := mJ4_treeifyBin) dJ4_treeifyBin_1 ?_
    refine wa_aloadV_n (pc := 4) (y := mJ4_treeifyBin) dJ4_treeifyBin_4 rfl (by first | exact rf_s _ | exact rf_n | exact rf_q _) ?_
    refine wf_alen dJ4_treeifyBin_5 (by assumption) (by decide) ?_
    refine wa_dup (pc := 6) (y := mJ4_treeifyBin) dJ4_treeifyBin_6 (by first | rfl | exact rf_cat _) ?_
    refine wa_istore_n (pc := 7) (y := mJ4_treeifyBin) dJ4_treeifyBin_7 (Nat.le_of_ble_eq_true rfl) (by first | rfl | (simp [okst, rf_cat] <;> assumption)) ?_
    change WA _ _ _ _ (List.set _ 3 _) _ _ _
    simp only [List.set_cons_zero, List.set_cons_succ]
    refine wa_bipush (pc := 8) (y := mJ4_treeifyBin) (Int32.ofNat 64) dJ4_treeifyBin_8 rfl ?_
    refine wa_icmp_ge (pc := 10) 21 dJ4_treeifyBin_10 rfl (fun hb10 => absurd hb10 (Int32.not_le.mpr ((iN_lt (b := 64) (by omega) (by omega)).mpr (by omega)))) (fun hb10 => ?_)
    refine wa_aloadV_n (pc := 13) (y := mJ4_treeifyBin) dJ4_treeifyBin_13 rfl (by first | exact rf_s _ | exact rf_n | exact rf_q _) ?_
    refine wa_callW (k := 12) (pc := 14) (owner := "java/util/HashMap") (s_J4_resize (d := d - 1) (by omega) hG M9 (by omega) (by omega)) dJ4_treeifyBin_14 okJ4_resize rfl q1277 q1279 (hDc_code q1278 q1281) (by decide) q1280 q1278 (sF_at (by assumption)) rfl rfl rfl rfl (Nat.le_of_ble_eq_true rfl) (Nat.le_of_ble_eq_true rfl) (by omega) ?_
    rintro _ _ - - Z
    have Z9 := ReQ.ofRz (c := 19) (s := 209) (by omega) hlen Z
    obtain ⟨h2, F2, nt, ns2, B2, rfl, rfl, -⟩ := Z
    refine aft_v (pc2 := 17) ?_ rfl
    refine wa_pop (pc := 17) (y := mJ4_treeifyBin) dJ4_treeifyBin_17 (by first | rfl | exact rf_cat _) ?_
    refine wa_goto (pc := 18) (y := mJ4_treeifyBin) 109 dJ4_treeifyBin_18 rfl ?_
    refine wa_return (pc := 109) (y := mJ4_treeifyBin) dJ4_treeifyBin_109 rfl ⟨rfl, Z9⟩
  · have h64 : 2 ^ 6 ≤ 2 ^ k := Nat.pow_le_pow_right (by decide) hk6
    obtain ⟨bi, hbi⟩ : ∃ bi, bi = x % 2 ^ k := ⟨_, rfl⟩
    have hb : bi < 2 ^ k := by rw [hbi]; exact Nat.mod_lt _ hk0
    obtain ⟨b1, b2, b3, b4⟩ := tB bi hb
    have hsub : ∀ z, z ∈ B bi → z ∈ ns := fun z hz => ((b4 z).mp hz).1
    have hmod : ∀ z, z ∈ B bi → kF F z % 2 ^ k = bi := fun z hz => ((b4 z).mp hz).2
    have h19 := bin_19 hk6 b3 (fun z hz => (mN z (hsub z hz)).lt) (fun p q hp hq => minj p q (hsub p hp) (hsub q hq)) hmod
    have hN : ∀ z, z ∈ ns → Nd h z := fun z hz => (mN z hz).1
    have hlt : ∀ z, z ∈ ns → z < h.1 := fun z hz => (hN z hz).lt
    have hge : Int32.ofNat 64 ≤ Int32.ofNat (2 ^ k) := (iN_le (by omega) (by omega)).mpr (by omega)
    cases hB : B bi with
    | nil =>
      rw [hB] at b1
      have b1 : F tb bi = .null := b1
      refine wa_aloadV_n (pc := 0) (y := mJ4_treeifyBin) dJ4_treeifyBin_0 rfl (by first | exact rf_s _ | exact rf_n | exact rf_q _) ?_
      refine wa_ifnull (pc := 1) (y := mJ4_treeifyBin) dJ4_treeifyBin_1 ?_
      refine wa_aloadV_n (pc := 4) (y := mJ4_treeifyBin) dJ4_treeifyBin_4 rfl (by first | exact rf_s _ | exact rf_n | exact rf_q _) ?_
      refine wf_alen dJ4_treeifyBin_5 (by assumption) (by decide) ?_
      refine wa_dup (pc := 6) (y := mJ4_treeifyBin) dJ4_treeifyBin_6 (by first | rfl | exact rf_cat _) ?_
      refine wa_istore_n (pc := 7) (y := mJ4_treeifyBin) dJ4_treeifyBin_7 (Nat.le_of_ble_eq_true rfl) (by first | rfl | (simp [okst, rf_cat] <;> assumption)) ?_
      change WA _ _ _ _ (List.set _ 3 _) _ _ _
      simp only [List.set_cons_zero, List.set_cons_succ]
      refine wa_bipush (pc := 8) (y := mJ4_treeifyBin) (Int32.ofNat 64) dJ4_treeifyBin_8 rfl ?_
      refine wa_icmp_ge (pc := 10) 21 dJ4_treeifyBin_10 rfl (fun hb10 => ?_) (fun hb10 => absurd hge hb10)
      refine wa_aloadV_n (pc := 21) (y := mJ4_treeifyBin) dJ4_treeifyBin_21 rfl (by first | exact rf_s _ | exact rf_n | exact rf_q _) ?_
      refine wa_iload_n (pc := 22) (y := mJ4_treeifyBin) dJ4_treeifyBin_22 rfl ?_
      refine wa_iconst (pc := 23) (y := mJ4_treeifyBin) (Int32.ofNat 1) dJ4_treeifyBin_23 rfl ?_
      refine wa_isub (pc := 24) (y := mJ4_treeifyBin) dJ4_treeifyBin_24 ?_
      rw [iN_sub (by omega)]
      refine wa_iload_n (pc := 25) (y := mJ4_treeifyBin) dJ4_treeifyBin_25 rfl ?_
      refine wa_iand (pc := 26) (y := mJ4_treeifyBin) dJ4_treeifyBin_26 ?_
      rw [iN_and, and_mod, ← hbi]
      refine wa_dup (pc := 27) (y := mJ4_treeifyBin) dJ4_treeifyBin_27 (by first | rfl | exact rf_cat _) ?_
      refine wa_istore (pc := 28) (y := mJ4_treeifyBin) dJ4_treeifyBin_28 (Nat.le_of_ble_eq_true rfl) (by first | rfl | (simp [okst, rf_cat] <;> assumption)) ?_
      simp only [List.set_cons_zero, List.set_cons_succ]
      refine wf_aaload dJ4_treeifyBin_30 (by assumption) (by first | exact Or.inl rfl | exact Or.inr rfl) (by omega) (by (repeat (first | exact updF_self _ _ _ _ | (apply updF_i; · decide) | (apply updF_a; · first | assumption | (apply Ne.symm; assumption) | omega) | (apply newF_a; · first | assumption | (apply Ne.symm; assumption) | omega) | exact newL_self (by rfl) | exact newF_self (by rfl) | (apply cpyF_a; · first | assumption | (apply Ne.symm; assumption) | omega))) <;> first | assumption | rfl) ?_
      refine wa_dup (pc := 31) (y := mJ4_treeifyBin) dJ4_treeifyBin_31 (by first | rfl | exact rf_cat _) ?_
      refine wa_astoreV (pc := 32) (y := mJ4_treeifyBin) dJ4_treeifyBin_32 (Nat.le_of_ble_eq_true rfl) (by first | rfl | (simp [okst, rf_cat] <;> assumption)) (by first | exact rf_s _ | exact rf_n | exact rf_q _) ?_
      simp only [List.set_cons_zero, List.set_cons_succ]
      refine wa_ifnullN (pc := 34) (y := mJ4_treeifyBin) 109 dJ4_treeifyBin_34 rfl ?_
      refine wa_return (pc := 109) (y := mJ4_treeifyBin) dJ4_treeifyBin_109 rfl ⟨rfl, ReQ.refl M9 (by omega)⟩
    | cons f C =>
      have hf : (B bi).head? = some f := by rw [hB]; rfl
      have hfB := head_mem hf
      have b19 : F tb bi = .ref f := by rw [b1, hf]; rfl
      have KQ : ∀ (h1 : AH) (F1 : Nat → Nat → Value) (ρ : Nat → Nat) (v8 : Value), RepR 11 h F h1 F1 m ns ρ (B bi) → DL F1 3 9 ((B bi).map ρ) → (∀ p, p ∈ B bi → Is h1 (ρ p) 14 11 ∧ F1 (ρ p) 10 = .int 0) →
          WA G d mJ4_treeifyBin 93 [.ref m, .ref tb, .int (Int32.ofNat x), .int (Int32.ofNat (2 ^ k)), .int (Int32.ofNat bi), .null, va_rf ((B bi).map ρ).head?, va_rf ((B bi).map ρ).getLast?, v8] [] (sF h1 F1) (fun r h' => r = .inl none ∧ ReQ 19 209 h F m ns k h') := by
        intro h1 F1 ρ v8 R dl k1
        have R9 := R
        obtain ⟨r1, r2, r3, r4, r5, r6, r7, r8⟩ := R
        have htb1 := htb.ext r1
        have hpf : ((B bi).map ρ).head? = some (ρ f) := by rw [hB]; rfl
        have hpf2 : (B bi).map ρ = ρ f :: C.map ρ := by rw [hB]; rfl
        have kf := (k1 f hfB).1
        have ρt : ∀ z, z ∈ B bi → ρ z ≠ tb := fun z hz => by have := r3 z hz; have := htb.lt; omega
        have ρt2 : ∀ z, z ∈ ns → ρ z ≠ tb := fun z hz => by
          by_cases hzB : z ∈ B bi
          · exact ρt z hzB
          · rw [r4 z hzB]; exact (hne9.2 z hz).2
        have hnd : ((B bi).map ρ).Nodup := by
          rw [List.nodup_iff_pairwise_ne, List.pairwise_map]
          exact List.Pairwise.imp_of_mem (fun {x y} hx hy hxy e => hxy (r5 x y hx hy e)) (List.nodup_iff_pairwise_ne.mp b3)
        obtain ⟨F2, hF2⟩ : ∃ F2, F2 = updF F1 tb bi (.ref (ρ f)) := ⟨_, rfl⟩
        have g2 : ∀ z i, z ≠ tb → F2 z i = F1 z i := fun z i hz => by rw [hF2]; exact updF_a hz rfl
        have gk : ∀ z, z ∈ B bi → kF F2 (ρ z) = kF F z := fun z hz => kF_congr (F := fun a i => F z i) (p := ρ z) ((g2 _ 0 (ρt z hz)).trans (r7 z hz 0 (by decide)))
        have gK : ∀ q i, Is h q 4 2 → F2 q i = F q i := fun q i hq => (g2 q i (hq.ne htb (by decide))).trans (r8 q i hq.lt (fun e => hq.ne hm (by decide) e.1) (fun e => (hN q e.1).ne hq (by decide) (by decide) rfl))
        have hnk : ∀ p, p ∈ (B bi).map ρ → NK h1 F2 p (kF F2 p) := fun p hp => by
          obtain ⟨w, hw, rfl⟩ := List.mem_map.mp hp
          obtain ⟨-, ⟨e0, q, e1, eK⟩, e2⟩ := mN w (hsub w hw)
          rw [gk w hw]
          exact ⟨(g2 _ 0 (ρt w hw)).trans ((r7 w hw 0 (by decide)).trans e0), q, (g2 _ 1 (ρt w hw)).trans ((r7 w hw 1 (by decide)).trans e1), eK.1.ext r1, (gK q 0 eK.1).trans eK.2.1, (gK q 1 eK.1).trans eK.2.2.1, eK.2.2.2⟩
        have dl2 : DL F2 3 9 ((B bi).map ρ) := ⟨ChE_congr (fun z hz => by obtain ⟨w, hw, rfl⟩ := List.mem_map.mp hz; exact g2 _ 3 (ρt w hw)) dl.1, PvE_congr (fun z hz => by obtain ⟨w, hw, rfl⟩ := List.mem_map.mp hz; exact g2 _ 9 (ρt w hw)) dl.2⟩
        have hsl : F2 tb bi = va_rf ((B bi).map ρ).head? := by rw [hF2, updF_self, hpf]; rfl
        rw [hpf]
        refine wa_aloadV_n (pc := 93) (y := mJ4_treeifyBin) dJ4_treeifyBin_93 rfl (by first | exact rf_s _ | exact rf_n | exact rf_q _) ?_
        refine wa_iload (pc := 94) (y := mJ4_treeifyBin) dJ4_treeifyBin_94 rfl ?_
        refine wa_aloadV (pc := 96) (y := mJ4_treeifyBin) dJ4_treeifyBin_96 rfl (by first | exact rf_s _ | exact rf_n | exact rf_q _) ?_
        refine wa_dup_x2 (pc := 98) (y := mJ4_treeifyBin) dJ4_treeifyBin_98 (by first | rfl | exact rf_cat _) (by first | rfl | exact rf_cat _) (by first | rfl | exact rf_cat _) ?_
        refine wf_aastoreV (pc := 99) (y := mJ4_treeifyBin) "java/util/HashMap$Node" dJ4_treeifyBin_99 htb1 (Or.inr ⟨rfl, rfl⟩) (by omega) (rf_s (ρ f)) (fun z hz => by cases hz; exact Nd.stor (Or.inr kf)) ?_
        rw [show updF F1 tb bi (va_rf (some (ρ f))) = F2 from hF2.symm]
        refine wa_ifnull (pc := 100) (y := mJ4_treeifyBin) dJ4_treeifyBin_100 ?_
        refine wa_aloadV (pc := 103) (y := mJ4_treeifyBin) dJ4_treeifyBin_103 rfl (by first | exact rf_s _ | exact rf_n | exact rf_q _) ?_
        refine wa_aloadV_n (pc := 105) (y := mJ4_treeifyBin) dJ4_treeifyBin_105 rfl (by first | exact rf_s _ | exact rf_n | exact rf_q _) ?_
        refine wa_callV (pc := 106) (s_J26_treeify (d := d - 1) (B := (B bi).map ρ) (κ := kF F2) (bi := bi) (by omega) hG htb1 (by omega) hpf2 hnd (fun p hp => by obtain ⟨w, hw, rfl⟩ := List.mem_map.mp hp; exact (k1 w hw).1) hnk (fun p hp => by obtain ⟨w, hw, rfl⟩ := List.mem_map.mp hp; rw [gk w hw]; exact hmod w hw) (fun p q hp hq e => by obtain ⟨w, hw, rfl⟩ := List.mem_map.mp hp; obtain ⟨w2, hw2, rfl⟩ := List.mem_map.mp hq; rw [gk w hw, gk w2 hw2] at e; rw [minj w w2 (hsub w hw) (hsub w2 hw2) e]) hsl dl2 (fun p hp => by obtain ⟨w, hw, rfl⟩ := List.mem_map.mp hp; exact ⟨false, (g2 _ 10 (ρt w hw)).trans (k1 w hw).2⟩)) dJ4_treeifyBin_106 okJ26_treeify q1650 q1358 q1359 (sF_at (by assumption)) rfl rfl rfl (Nat.le_of_ble_eq_true rfl) (Nat.le_of_ble_eq_true rfl) (by omega) ?_
        rintro _ _ - - ⟨rfl, F3, B2, rfl, c1, c2, c3, c4, c5⟩
        refine aft_0 (pc2 := 109) ?_ rfl
        refine wa_return (pc := 109) (y := mJ4_treeifyBin) dJ4_treeifyBin_109 rfl ?_
        have RQ : RepQ (HfP tb bi (B bi)) 11 h F h1 F3 m ns ρ (B bi) := by
          refine (RepQ.ofR (Q := HfP tb bi (B bi)) R9 FrP.refl (fun p hp j hj e => ?_)).fr (Q2 := fun z j => z = tb ∧ j = bi ∨ z ∈ (B bi).map ρ ∧ (j = 3 ∨ j = 6 ∨ j = 7 ∨ j = 8 ∨ j = 9 ∨ j = 10)) ((by rw [hF2]; exact FrP.refl.upd (Or.inl ⟨rfl, rfl⟩) : FrP _ F1 F2).trans c5) (fun b j hb e => ?_) ⟨fun e => ?_, fun e => ?_⟩ (fun z hz => ⟨fun e => ?_, fun e => ?_⟩) (fun p hp j hj e => ?_)
          · rcases e with e | e
            · exact (hne9.2 p (hsub p hp)).2 e.1
            · omega
          · rcases e with e | e
            · exact Or.inl e
            · obtain ⟨w, hw, rfl⟩ := List.mem_map.mp e.1
              have := r3 w hw
              omega
          · rcases e with e | e
            · exact hne9.1 e.1.symm
            · obtain ⟨w, hw, e9⟩ := List.mem_map.mp e.1
              have := r3 w hw
              have := hm.lt
              omega
          · rcases e with e | e
            · exact hne9.1 e.1.symm
            · obtain ⟨w, hw, e9⟩ := List.mem_map.mp e.1
              have := r3 w hw
              have := hm.lt
              omega
          · rcases e with e | e
            · exact ρt2 z hz e.1
            · omega
          · rcases e with e | e
            · exact ρt2 z hz e.1
            · omega
          · rcases e with e | e
            · exact ρt p hp e.1
            · omega
        obtain ⟨B3, e1, e2, e3, e4, e5⟩ := M9.rep hb RQ (fun z hz => hz) (fun z hz => Or.inr (k1 z hz).1) ⟨B2, c3, Or.inr (c4.congr Ext.refl (fun z hz => kF_congr (c5 z 0 fun e => by
          obtain ⟨w, hw, e9⟩ := List.mem_map.mp ((c1 z).mp hz)
          rcases e with e | e
          · exact ρt w hw (e9.trans e.1)
          · omega)) fun _ _ _ _ => rfl), c2, fun p => (c1 p).trans List.mem_map⟩
        have r9 := r2
        exact ⟨rfl, h1, F3, tb, k, ns.map ρ, B3, rfl, e1, by omega, by omega, by omega, e2, e3, ⟨by omega, by omega⟩, e4, Or.inl (e5 0 (by decide) (by decide)), fun i hi => e5 i (by omega) (by omega)⟩
      refine wa_aloadV_n (pc := 0) (y := mJ4_treeifyBin) dJ4_treeifyBin_0 rfl (by first | exact rf_s _ | exact rf_n | exact rf_q _) ?_
      refine wa_ifnull (pc := 1) (y := mJ4_treeifyBin) dJ4_treeifyBin_1 ?_
      refine wa_aloadV_n (pc := 4) (y := mJ4_treeifyBin) dJ4_treeifyBin_4 rfl (by first | exact rf_s _ | exact rf_n | exact rf_q _) ?_
      refine wf_alen dJ4_treeifyBin_5 (by assumption) (by decide) ?_
      refine wa_dup (pc := 6) (y := mJ4_treeifyBin) dJ4_treeifyBin_6 (by first | rfl | exact rf_cat _) ?_
      refine wa_istore_n (pc := 7) (y := mJ4_treeifyBin) dJ4_treeifyBin_7 (Nat.le_of_ble_eq_true rfl) (by first | rfl | (simp [okst, rf_cat] <;> assumption)) ?_
      change WA _ _ _ _ (List.set _ 3 _) _ _ _
      simp only [List.set_cons_zero, List.set_cons_succ]
      refine wa_bipush (pc := 8) (y := mJ4_treeifyBin) (Int32.ofNat 64) dJ4_treeifyBin_8 rfl ?_
      refine wa_icmp_ge (pc := 10) 21 dJ4_treeifyBin_10 rfl (fun hb10 => ?_) (fun hb10 => absurd hge hb10)
      refine wa_aloadV_n (pc := 21) (y := mJ4_treeifyBin) dJ4_treeifyBin_21 rfl (by first | exact rf_s _ | exact rf_n | exact rf_q _) ?_
      refine wa_iload_n (pc := 22) (y := mJ4_treeifyBin) dJ4_treeifyBin_22 rfl ?_
      refine wa_iconst (pc := 23) (y := mJ4_treeifyBin) (Int32.ofNat 1) dJ4_treeifyBin_23 rfl ?_
      refine wa_isub (pc := 24) (y := mJ4_treeifyBin) dJ4_treeifyBin_24 ?_
      rw [iN_sub (by omega)]
      refine wa_iload_n (pc := 25) (y := mJ4_treeifyBin) dJ4_treeifyBin_25 rfl ?_
      refine wa_iand (pc := 26) (y := mJ4_treeifyBin) dJ4_treeifyBin_26 ?_
      rw [iN_and, and_mod, ← hbi]
      refine wa_dup (pc := 27) (y := mJ4_treeifyBin) dJ4_treeifyBin_27 (by first | rfl | exact rf_cat _) ?_
      refine wa_istore (pc := 28) (y := mJ4_treeifyBin) dJ4_treeifyBin_28 (Nat.le_of_ble_eq_true rfl) (by first | rfl | (simp [okst, rf_cat] <;> assumption)) ?_
      simp only [List.set_cons_zero, List.set_cons_succ]
      refine wf_aaload dJ4_treeifyBin_30 (by assumption) (by first | exact Or.inl rfl | exact Or.inr rfl) (by omega) (by (repeat (first | exact updF_self _ _ _ _ | (apply updF_i; · decide) | (apply updF_a; · first | assumption | (apply Ne.symm; assumption) | omega) | (apply newF_a; · first | assumption | (apply Ne.symm; assumption) | omega) | exact newL_self (by rfl) | exact newF_self (by rfl) | (apply cpyF_a; · first | assumption | (apply Ne.symm; assumption) | omega))) <;> first | assumption | rfl) ?_
      refine wa_dup (pc := 31) (y := mJ4_treeifyBin) dJ4_treeifyBin_31 (by first | rfl | exact rf_cat _) ?_
      refine wa_astoreV (pc := 32) (y := mJ4_treeifyBin) dJ4_treeifyBin_32 (Nat.le_of_ble_eq_true rfl) (by first | rfl | (simp [okst, rf_cat] <;> assumption)) (by first | exact rf_s _ | exact rf_n | exact rf_q _) ?_
      simp only [List.set_cons_zero, List.set_cons_succ]
      refine wa_ifnull (pc := 34) (y := mJ4_treeifyBin) dJ4_treeifyBin_34 ?_
      refine wa_null (pc := 37) (y := mJ4_treeifyBin) dJ4_treeifyBin_37 ?_
      refine wa_astoreV (pc := 38) (y := mJ4_treeifyBin) dJ4_treeifyBin_38 (Nat.le_of_ble_eq_true rfl) (by first | rfl | (simp [okst, rf_cat] <;> assumption)) (by first | exact rf_s _ | exact rf_n | exact rf_q _) ?_
      simp only [List.set_cons_zero, List.set_cons_succ]
      refine wa_null (pc := 40) (y := mJ4_treeifyBin) dJ4_treeifyBin_40 ?_
      refine wa_astoreV (pc := 41) (y := mJ4_treeifyBin) dJ4_treeifyBin_41 (Nat.le_of_ble_eq_true rfl) (by first | rfl | (simp [okst, rf_cat] <;> assumption)) (by first | exact rf_s _ | exact rf_n | exact rf_q _) ?_
      simp only [List.set_cons_zero, List.set_cons_succ]
      exact tb_43 (B := B bi) (by omega) hm mn hN b3 hsub (fun z hz => by obtain ⟨-, ⟨e0, q, e1, -⟩, e2⟩ := mN z (hsub z hz); exact ⟨_, q, _, e0, e1, e2⟩) b2.chain KQ C [] f h F (fun z => z) (.retAddr 0) (by rw [hB]; rfl) (RepR.refl mlo) DL.nil (fun p hp => by cases hp)
end TBN3
