/-! ===== removeNode: the walk ===== -/
section RMW
variable {G : GG} {d n : Nat} {h h2 : AH} {F F1 F2 F3 : Nat → Nat → Value} {ρ : Nat → Nat} {l m p q x k tb bi i j c s : Nat} {mv : Bool} {ns a b D B' : List Nat} {B : Nat → List Nat}
theorem erase_mem {a b : List Nat} (hn : (a ++ p :: b).Nodup) : ∀ z, z ∈ a ++ b ↔ z ∈ a ++ p :: b ∧ z ≠ p := fun z => by
  simp
  grind [List.nodup_append]
theorem ChE_del {a b : List Nat} (hn : (a ++ p :: b).Nodup) (c : ChE F 3 (a ++ p :: b) none) (h1 : ∀ z, z ∈ a → F2 z 3 = if a.getLast? = some z then va_rf b.head? else F z 3) (h2 : ∀ z, z ∈ b → F2 z 3 = F z 3) : ChE F2 3 (a ++ b) none := by
  rw [ChE_app] at c ⊢
  rw [or_none_]
  exact ⟨ChE_last (List.nodup_append.mp hn).1 h1 c.1, ChE_congr h2 c.2.2⟩
theorem s_J4_removeNode (hd : 8 ≤ d) (hG : StG G) (M : MapR h F m ns) (t : TK h F m k) (hl9 : ns.length ≤ 96) (K : KeyAt h F q x) :
    MA G d mJ4_removeNode [.ref m, .int (Int32.ofNat x), .ref q, .null, .int 0, .int (bI mv)] (sF h F) (RmvQ m h F ns k x mv) := by
  have M9 := M
  have hx := K.2.2.2
  have K1 := K.1
  obtain ⟨m1, m2, m3, m5, m10, m11, mlo, mn, mN, minj, mvw, mt⟩ := M
  change WA G d mJ4_removeNode 0 [.ref m, .int (Int32.ofNat x), .ref q, .null, .int 0, .int (bI mv), .retAddr 0, .retAddr 0, .retAddr 0, .retAddr 0, .retAddr 0, .retAddr 0, .retAddr 0, .retAddr 0] [] _ _
  rcases mt with ⟨t1, rfl, t0, t4, ht⟩ | ⟨tb, k2, B, t1, ⟨htb, tB⟩, hk1, t4, t5⟩
  · refine wa_aloadV_n (pc := 0) (y := mJ4_removeNode) dJ4_removeNode_0 rfl (by first | exact rf_s _ | exact rf_n | exact rf_q _) ?_
    refine wf_get (k := 12) (l := 12) 0 dJ4_removeNode_1 (by assumption) rfl q207 (Or.inl rfl) (Nat.le_of_ble_eq_true rfl) (Nat.le_of_ble_eq_true rfl) (by (repeat (first | exact updF_self _ _ _ _ | (apply updF_i; · decide) | (apply updF_a; · first | assumption | (apply Ne.symm; assumption) | omega) | (apply newF_a; · first | assumption | (apply Ne.symm; assumption) | omega) | exact newL_self (by rfl) | exact newF_self (by rfl) | (apply cpyF_a; · first | assumption | (apply Ne.symm; assumption) | omega))) <;> first | assumption | rfl) ?_
    refine wa_dup (pc := 4) (y := mJ4_removeNode) dJ4_removeNode_4 (by first | rfl | exact rf_cat _) ?_
    refine wa_astoreV (pc := 5) (y := mJ4_removeNode) dJ4_removeNode_5 (Nat.le_of_ble_eq_true rfl) (by first | rfl | (simp [okst, rf_cat] <;> assumption)) (by first | exact rf_s _ | exact rf_n | exact rf_q _) ?_
    simp only [List.set_cons_zero, List.set_cons_succ]
    refine wa_ifnullN (pc := 7) (y := mJ4_removeNode) 289 dJ4_removeNode_7 rfl ?_
    refine wa_null (pc := 289) (y := mJ4_removeNode) dJ4_removeNode_289 ?_
    refine wa_areturnV (pc := 290) (y := mJ4_removeNode) (.object "java/util/HashMap$Node") dJ4_removeNode_290 rfl (Or.inl ⟨_, rfl⟩) (by first | exact rf_s _ | exact rf_n | exact rf_q _) (Or.inl ⟨fun z hz => (by cases hz), rfl, rfl⟩)
  · have hke : k = k2 := t.uniq (Or.inr ⟨tb, t1, htb⟩)
    subst hke
    have hk2 : 2 ^ k < 2 ^ 9 := Nat.pow_lt_pow_right (by decide) (by omega)
    have hk0 : 0 < 2 ^ k := Nat.two_pow_pos k
    have MC : MapC h F m tb k ns B := ⟨m1, m5, m10, m11, mlo, mn, mN, minj, mvw, t1, ⟨htb, tB⟩, hk1, t4⟩
    have hne9 := MC.ne
    have hN : ∀ z, z ∈ ns → Nd h z := fun z hz => (mN z hz).1
    have hlt : ∀ z, z ∈ ns → z < h.1 := fun z hz => (hN z hz).lt
    obtain ⟨bi, hbi⟩ : ∃ bi, x % 2 ^ k = bi := ⟨_, rfl⟩
    have hb : bi < 2 ^ k := by rw [← hbi]; exact Nat.mod_lt _ hk0
    obtain ⟨b1, b2, b3, b4⟩ := tB bi hb
    have hsub : ∀ z, z ∈ B bi → z ∈ ns := fun z hz => ((b4 z).mp hz).1
    have hno : (∀ z, z ∈ B bi → kF F z ≠ x) → ∀ z, z ∈ ns → kF F z ≠ x := fun h9 z hz e => h9 z ((b4 z).mpr ⟨hz, by rw [e]; exact hbi⟩) e
    have hpos : ¬ Int32.ofNat (2 ^ k) ≤ 0 := Int32.not_le.mpr ((iN_gt0 (by omega)).mpr hk0)
    have hgt : 0 < Int32.ofNat (2 ^ k) := (iN_gt0 (by omega)).mpr hk0
    /- the node p is found in a plain bin -/
    have fin : ∀ (a b : List Nat) (p : Nat) (F2 : Nat → Nat → Value) (v7 v8 v9 v11 v12 v13 : Value), B bi = a ++ p :: b → kF F p = x → (∀ z, z ∈ B bi → Is h z 13 6) → FrP (HfP tb bi (B bi)) F F2 → F2 tb bi = va_rf (a ++ b).head? → (∀ z, z ∈ a → F2 z 3 = if a.getLast? = some z then va_rf b.head? else F z 3) → (∀ z, z ∈ b → F2 z 3 = F z 3) → ChE F 3 (B bi) none →
        WA G d mJ4_removeNode 260 [.ref m, .int (Int32.ofNat x), .ref q, .null, .int 0, .int (bI mv), .ref tb, v7, v8, v9, .ref p, v11, v12, v13] [] (sF h F2) (RmvQ m h F ns k x mv) := fun a b p F2 v7 v8 v9 v11 v12 v13 hB hpx hI fr e1 e2 e3 hc => by
      have hpB : p ∈ B bi := by rw [hB]; simp
      have hm9 : ∀ z, z ∈ a ++ b → z ∈ B bi := fun z hz => by rw [hB]; simp at hz ⊢; grind
      refine rn_260 (bi := bi) (ρ := fun z => z) (D := []) (B' := a ++ b) (by omega) MC m2 m3 t5 hl9 (hsub p hpB) hpx (by rw [hpx]; exact hbi) ((RepQ.refl mlo).fr (Q2 := HfP tb bi (B bi)) fr (fun _ _ _ h9 => h9) ⟨fun e => ?_, fun e => ?_⟩ (fun z hz => ⟨fun e => ?_, fun e => ?_⟩) (fun p hp => by cases hp)) (fun z hz => by cases hz) (by simp) (fun z hz => by cases hz) (HalfR.self e1 (Or.inl ⟨fun z hz => hI z (hm9 z hz), ?_⟩) ?_) (fun z => by rw [hB]; exact erase_mem (hB ▸ b3) z) (fun _ => ⟨rfl, rfl⟩)
      · rcases e with e | e
        · exact hne9.1 e.1.symm
        · exact (hne9.2 m (hsub m e.1)).1 rfl
      · rcases e with e | e
        · exact hne9.1 e.1.symm
        · exact (hne9.2 m (hsub m e.1)).1 rfl
      · rcases e with e | e
        · exact (hne9.2 z hz).2 e.1
        · omega
      · rcases e with e | e
        · exact (hne9.2 z hz).2 e.1
        · omega
      · rw [hB] at hc b3
        exact ChE_del b3 hc e2 e3
      · rw [hB] at b3
        grind [List.nodup_append]
    cases hB : B bi with
    | nil =>
      have b1 : F tb bi = .null := by rw [b1, hB]; rfl
      refine wa_aloadV_n (pc := 0) (y := mJ4_removeNode) dJ4_removeNode_0 rfl (by first | exact rf_s _ | exact rf_n | exact rf_q _) ?_
      refine wf_get (k := 12) (l := 12) 0 dJ4_removeNode_1 (by assumption) rfl q207 (Or.inl rfl) (Nat.le_of_ble_eq_true rfl) (Nat.le_of_ble_eq_true rfl) (by (repeat (first | exact updF_self _ _ _ _ | (apply updF_i; · decide) | (apply updF_a; · first | assumption | (apply Ne.symm; assumption) | omega) | (apply newF_a; · first | assumption | (apply Ne.symm; assumption) | omega) | exact newL_self (by rfl) | exact newF_self (by rfl) | (apply cpyF_a; · first | assumption | (apply Ne.symm; assumption) | omega))) <;> first | assumption | rfl) ?_
      refine wa_dup (pc := 4) (y := mJ4_removeNode) dJ4_removeNode_4 (by first | rfl | exact rf_cat _) ?_
      refine wa_astoreV (pc := 5) (y := mJ4_removeNode) dJ4_removeNode_5 (Nat.le_of_ble_eq_true rfl) (by first | rfl | (simp [okst, rf_cat] <;> assumption)) (by first | exact rf_s _ | exact rf_n | exact rf_q _) ?_
      simp only [List.set_cons_zero, List.set_cons_succ]
      refine wa_ifnull (pc := 7) (y := mJ4_removeNode) dJ4_removeNode_7 ?_
      refine wa_aloadV (pc := 10) (y := mJ4_removeNode) dJ4_removeNode_10 rfl (by first | exact rf_s _ | exact rf_n | exact rf_q _) ?_
      refine wf_alen dJ4_removeNode_12 (by assumption) (by decide) ?_
      refine wa_dup (pc := 13) (y := mJ4_removeNode) dJ4_removeNode_13 (by first | rfl | exact rf_cat _) ?_
      refine wa_istore (pc := 14) (y := mJ4_removeNode) dJ4_removeNode_14 (Nat.le_of_ble_eq_true rfl) (by first | rfl | (simp [okst, rf_cat] <;> assumption)) ?_
      simp only [List.set_cons_zero, List.set_cons_succ]
      refine wa_if_le (pc := 16) 289 dJ4_removeNode_16 rfl (fun hb16 => absurd hb16 hpos) (fun hb16 => ?_)
      refine wa_aloadV (pc := 19) (y := mJ4_removeNode) dJ4_removeNode_19 rfl (by first | exact rf_s _ | exact rf_n | exact rf_q _) ?_
      refine wa_iload (pc := 21) (y := mJ4_removeNode) dJ4_removeNode_21 rfl ?_
      refine wa_iconst (pc := 23) (y := mJ4_removeNode) (Int32.ofNat 1) dJ4_removeNode_23 rfl ?_
      refine wa_isub (pc := 24) (y := mJ4_removeNode) dJ4_removeNode_24 ?_
      rw [iN_sub (by omega)]
      refine wa_iload_n (pc := 25) (y := mJ4_removeNode) dJ4_removeNode_25 rfl ?_
      refine wa_iand (pc := 26) (y := mJ4_removeNode) dJ4_removeNode_26 ?_
      rw [iN_and, and_mod, hbi]
      refine wa_dup (pc := 27) (y := mJ4_removeNode) dJ4_removeNode_27 (by first | rfl | exact rf_cat _) ?_
      refine wa_istore (pc := 28) (y := mJ4_removeNode) dJ4_removeNode_28 (Nat.le_of_ble_eq_true rfl) (by first | rfl | (simp [okst, rf_cat] <;> assumption)) ?_
      simp only [List.set_cons_zero, List.set_cons_succ]
      refine wf_aaload dJ4_removeNode_30 (by assumption) (by first | exact Or.inl rfl | exact Or.inr rfl) (by omega) (by (repeat (first | exact updF_self _ _ _ _ | (apply updF_i; · decide) | (apply updF_a; · first | assumption | (apply Ne.symm; assumption) | omega) | (apply newF_a; · first | assumption | (apply Ne.symm; assumption) | omega) | exact newL_self (by rfl) | exact newF_self (by rfl) | (apply cpyF_a; · first | assumption | (apply Ne.symm; assumption) | omega))) <;> first | assumption | rfl) ?_
      refine wa_dup (pc := 31) (y := mJ4_removeNode) dJ4_removeNode_31 (by first | rfl | exact rf_cat _) ?_
      refine wa_astoreV (pc := 32) (y := mJ4_removeNode) dJ4_removeNode_32 (Nat.le_of_ble_eq_true rfl) (by first | rfl | (simp [okst, rf_cat] <;> assumption)) (by first | exact rf_s _ | exact rf_n | exact rf_q _) ?_
      simp only [List.set_cons_zero, List.set_cons_succ]
      refine wa_ifnullN (pc := 34) (y := mJ4_removeNode) 289 dJ4_removeNode_34 rfl ?_
      refine wa_null (pc := 289) (y := mJ4_removeNode) dJ4_removeNode_289 ?_
      refine wa_areturnV (pc := 290) (y := mJ4_removeNode) (.object "java/util/HashMap$Node") dJ4_removeNode_290 rfl (Or.inl ⟨_, rfl⟩) (by first | exact rf_s _ | exact rf_n | exact rf_q _) (Or.inl ⟨hno fun z hz => (by rw [hB] at hz; cases hz), rfl, rfl⟩)
    | cons f C =>
      have hf : (B bi).head? = some f := by rw [hB]; rfl
      have hfB := head_mem hf
      have b19 : F tb bi = .ref f := by rw [b1, hf]; rfl
      have hfns := hsub f hfB
      obtain ⟨fN, ⟨f0, fq, f1, fK⟩, f2⟩ := mN f hfns
      have fκ := fK.2.2.2
      have f3 : F f 3 = va_rf C.head? := by have := b2.chain; rw [hB] at this; have := this.1; rwa [or_none_] at this
      have hftb := (hne9.2 f hfns).2
      /- from 206 in a tree bin -/
      have tree : ∀ (p : Nat) (v7 v8 v11 v12 v13 : Value), TBin h F (B bi) (kF F) → p ∈ B bi → kF F p = x → WA G d mJ4_removeNode 206 [.ref m, .int (Int32.ofNat x), .ref q, .null, .int 0, .int (bI mv), .ref tb, v7, v8, .int (Int32.ofNat bi), .ref p, v11, v12, v13] [] (sF h F) (RmvQ m h F ns k x mv) := by
        intro p v7 v8 v11 v12 v13 tbn hpB hpx
        have hpI := tbn.is hpB
        obtain ⟨a, b, hBp⟩ := List.append_of_mem hpB
        have hpm : kF F p % 2 ^ k = bi := by rw [hpx]; exact hbi
        have hm9 : ∀ z, z ∈ a ++ b ↔ z ∈ B bi ∧ z ≠ p := fun z => by rw [hBp]; exact erase_mem (hBp ▸ b3) z
        have hm8 : ¬ HfP tb bi (B bi) m 8 ∧ ¬ HfP tb bi (B bi) m 9 := ⟨fun e => e.elim (fun e => hne9.1 e.1.symm) (fun e => (hne9.2 m (hsub m e.1)).1 rfl), fun e => e.elim (fun e => hne9.1 e.1.symm) (fun e => (hne9.2 m (hsub m e.1)).1 rfl)⟩
        have hz8 : ∀ z, z ∈ ns → ¬ HfP tb bi (B bi) z 4 ∧ ¬ HfP tb bi (B bi) z 5 := fun z hz => ⟨fun e => e.elim (fun e => (hne9.2 z hz).2 e.1) (fun e => by omega), fun e => e.elim (fun e => (hne9.2 z hz).2 e.1) (fun e => by omega)⟩
        have hz0 : ∀ z j, z ∈ B bi → j < 3 → ¬ HfP tb bi (B bi) z j := fun z j hz hj e => e.elim (fun e => (hne9.2 z (hsub z hz)).2 e.1) (fun e => by omega)
        refine wa_aloadV (pc := 206) (y := mJ4_removeNode) dJ4_removeNode_206 rfl (by first | exact rf_s _ | exact rf_n | exact rf_q _) ?_
        refine wa_instS (pc := 208) (y := mJ4_removeNode) (k := 14) dJ4_removeNode_208 (sF_at (by assumption)) rfl q879 ?_
        refine wa_if_eq (pc := 211) 230 dJ4_removeNode_211 rfl (fun hb211 => absurd hb211 (by decide)) (fun hb211 => ?_)
        refine wa_aloadV (pc := 214) (y := mJ4_removeNode) dJ4_removeNode_214 rfl (by first | exact rf_s _ | exact rf_n | exact rf_q _) ?_
        refine wa_castS (pc := 216) (y := mJ4_removeNode) (k := 14) dJ4_removeNode_216 (sF_at (by assumption)) rfl q879 ?_
        refine wa_aloadV_n (pc := 219) (y := mJ4_removeNode) dJ4_removeNode_219 rfl (by first | exact rf_s _ | exact rf_n | exact rf_q _) ?_
        refine wa_aloadV (pc := 220) (y := mJ4_removeNode) dJ4_removeNode_220 rfl (by first | exact rf_s _ | exact rf_n | exact rf_q _) ?_
        refine wa_iload (pc := 222) (y := mJ4_removeNode) dJ4_removeNode_222 rfl ?_
        refine wa_callV (pc := 224) (s_J26_removeTreeNode (d := d - 1) (mv := mv) (B := B bi) (κ := kF F) (bi := bi) (by omega) hG m1 mlo mn hN htb (by omega) hBp b3 hsub (fun z hz => tbn.is hz) (fun z hz => (mN z (hsub z hz)).2.1) (fun z hz => ⟨_, (mN z (hsub z hz)).2.2⟩) (fun p q hp hq => minj p q (hsub p hp) (hsub q hq)) (fun z hz => ((b4 z).mp hz).2) b1 tbn) dJ4_removeNode_224 okJ26_removeTreeNode q1921 q1922 q1923 (sF_at (by assumption)) rfl rfl rfl (Nat.le_of_ble_eq_true rfl) (Nat.le_of_ble_eq_true rfl) (by omega) ?_
        rintro _ h' - - ⟨rfl, Z⟩
        refine aft_0 (pc2 := 227) ?_ rfl
        refine wa_goto (pc := 227) (y := mJ4_removeNode) 260 dJ4_removeNode_227 rfl ?_
        skip
        rcases Z with ⟨e0, F2, rfl, e1, e2⟩ | ⟨-, F2, B2, rfl, c1, c2, c3, c4, c5⟩ | ⟨hmv, F1, h2, F2, ρ, rfl, e1, R, e2, e3, e4⟩
        · exact rn_260 (bi := bi) (ρ := fun z => z) (D := []) (B' := a ++ b) (by omega) MC m2 m3 t5 hl9 (hsub p hpB) hpx hpm ((RepQ.refl mlo).fr (Q2 := HfP tb bi (B bi)) e2 (fun _ _ _ h9 => h9) hm8 hz8 (fun p hp => by cases hp)) (fun z hz => by cases hz) (by simp) (fun z hz => by cases hz) (by rw [e0]; exact HalfR.nil e1) hm9 (fun _ => ⟨rfl, rfl⟩)
        · exact rn_260 (bi := bi) (ρ := fun z => z) (D := []) (B' := a ++ b) (by omega) MC m2 m3 t5 hl9 (hsub p hpB) hpx hpm ((RepQ.refl mlo).fr (Q2 := HfP tb bi (B bi)) c5 (fun _ _ _ h9 => h9) hm8 hz8 (fun p hp => by cases hp)) (fun z hz => by cases hz) (by simp) (fun z hz => by cases hz) ⟨B2, c3, Or.inr (c4.congr Ext.refl (fun z hz => kF_congr (c5 z 0 (hz0 z 0 ((hm9 z).mp ((c1 z).mp hz)).1 (by decide)))) fun _ _ _ _ => rfl), c2, fun z => (c1 z).trans ⟨fun h => ⟨z, h, rfl⟩, fun ⟨w, h, e⟩ => e ▸ h⟩⟩ hm9 (fun _ => ⟨rfl, rfl⟩)
        · have R9 := R
          obtain ⟨r1, r2, r3, r4, r5, r6, r7, r8⟩ := R
          have hnd : ((a ++ b).map ρ).Nodup := by
            rw [List.nodup_iff_pairwise_ne, List.pairwise_map]
            exact List.Pairwise.imp_of_mem (fun {x y} hx hy hxy e => hxy (r5 x y hx hy e)) (List.nodup_iff_pairwise_ne.mp (by rw [hBp] at b3; grind [List.nodup_append]))
          exact rn_260 (bi := bi) (ρ := ρ) (D := a ++ b) (B' := a ++ b) (by omega) MC m2 m3 t5 hl9 (hsub p hpB) hpx hpm (RepQ.ofR (Q := HfP tb bi (B bi)) R9 e1 (fun z hz j hj => hz0 z j ((hm9 z).mp hz).1 hj)) (fun z hz => (hm9 z).mp hz) (by rw [hBp] at b3; grind [List.nodup_append]) (fun z hz => Or.inl (e4 z hz)) ⟨(a ++ b).map ρ, e2, Or.inl ⟨fun z hz => by obtain ⟨w, hw, rfl⟩ := List.mem_map.mp hz; exact e4 w hw, e3⟩, hnd, fun z => List.mem_map⟩ hm9 (fun e => by rw [e] at hmv; cases hmv)
      /- from 206 in a plain bin -/
      have pl206 : ∀ (a : List Nat) (w p : Nat) (b : List Nat) (v8 v11 v12 v13 : Value), (∀ z, z ∈ B bi → Is h z 13 6) → ChE F 3 (B bi) none → B bi = a ++ w :: p :: b → kF F p = x → WA G d mJ4_removeNode 206 [.ref m, .int (Int32.ofNat x), .ref q, .null, .int 0, .int (bI mv), .ref tb, .ref w, v8, .int (Int32.ofNat bi), .ref p, v11, v12, v13] [] (sF h F) (RmvQ m h F ns k x mv) := by
        intro a w p b v8 v11 v12 v13 hI hc hBp hpx
        have hpB : p ∈ B bi := by rw [hBp]; simp
        have hwB : w ∈ B bi := by rw [hBp]; simp
        have hpI := hI p hpB
        have hpN : Nd h p := Or.inl hpI
        have hwN : Nd h w := Or.inl (hI w hwB)
        have hpw : p ≠ w := fun e => by rw [hBp, e] at b3; grind [List.nodup_append]
        have p3 : F p 3 = va_rf b.head? := by rw [hBp, show a ++ w :: p :: b = (a ++ [w]) ++ p :: b by simp] at hc; rw [ChE.mem hc, or_none_]
        have hBp2 : B bi = (a ++ [w]) ++ p :: b := by rw [hBp]; simp
        have hwt := (hne9.2 w (hsub w hwB)).2
        refine wa_aloadV (pc := 206) (y := mJ4_removeNode) dJ4_removeNode_206 rfl (by first | exact rf_s _ | exact rf_n | exact rf_q _) ?_
        refine wa_instNo (pc := 208) (y := mJ4_removeNode) (k := 13) dJ4_removeNode_208 (sF_at (by assumption)) rfl q879 (by decide +kernel) ?_
        refine wa_if_eq (pc := 211) 230 dJ4_removeNode_211 rfl (fun hb211 => ?_) (fun hb211 => absurd rfl hb211)
        refine wa_aloadV (pc := 230) (y := mJ4_removeNode) dJ4_removeNode_230 rfl (by first | exact rf_s _ | exact rf_n | exact rf_q _) ?_
        refine wa_aloadV (pc := 232) (y := mJ4_removeNode) dJ4_removeNode_232 rfl (by first | exact rf_s _ | exact rf_n | exact rf_q _) ?_
        refine wa_acneV (pc := 234) 250 dJ4_removeNode_234 rfl (by first | exact rf_s _ | exact rf_n | exact rf_q _) (by first | exact rf_s _ | exact rf_n | exact rf_q _) (fun hb234 => ?_) (fun hb234 => absurd hb234 (fun e => hpw (Option.some.inj e)))
        refine wa_aloadV (pc := 250) (y := mJ4_removeNode) dJ4_removeNode_250 rfl (by first | exact rf_s _ | exact rf_n | exact rf_q _) ?_
        refine wa_aloadV (pc := 252) (y := mJ4_removeNode) dJ4_removeNode_252 rfl (by first | exact rf_s _ | exact rf_n | exact rf_q _) ?_
        refine wn_get 3 dJ4_removeNode_254 (by assumption) q1337 (Or.inl rfl) (Nat.le_of_ble_eq_true rfl) (by (repeat (first | exact updF_self _ _ _ _ | (apply updF_i; · decide) | (apply updF_a; · first | assumption | (apply Ne.symm; assumption) | omega) | (apply newF_a; · first | assumption | (apply Ne.symm; assumption) | omega) | exact newL_self (by rfl) | exact newF_self (by rfl) | (apply cpyF_a; · first | assumption | (apply Ne.symm; assumption) | omega))) <;> first | assumption | rfl) ?_
        refine wn_put 3 (.object "java/util/HashMap$Node") dJ4_removeNode_257 (by assumption) q1337 (Or.inl rfl) (Nat.le_of_ble_eq_true rfl) rfl (by decide +kernel) (by first | rfl | exact rf_nar _ | exact rf_nar2 _) (by first | rfl | exact rf_fit _ | exact rf_fit2 _) ?_
        exact fin (a ++ [w]) b p _ _ _ _ _ _ _ hBp2 hpx hI (FrP.refl.upd (Or.inr ⟨hwB, Or.inl rfl⟩)) ((updF_a (Ne.symm hwt) rfl).trans (by rw [b1, hBp]; simp)) (fun z hz => by by_cases ez : z = w; (subst ez; rw [updF_self]; simp); (rw [updF_a ez rfl]; simp; intro e; exact absurd e.symm ez)) (fun z hz => updF_a (fun e => by rw [hBp, ← e] at b3; grind [List.nodup_append]) rfl) hc
      have plf : ∀ (v8 v11 v12 v13 : Value), (∀ z, z ∈ B bi → Is h z 13 6) → ChE F 3 (B bi) none → kF F f = x → WA G d mJ4_removeNode 206 [.ref m, .int (Int32.ofNat x), .ref q, .null, .int 0, .int (bI mv), .ref tb, .ref f, v8, .int (Int32.ofNat bi), .ref f, v11, v12, v13] [] (sF h F) (RmvQ m h F ns k x mv) := by
        intro v8 v11 v12 v13 hI hc hpx
        have hpI := hI f hfB
        have hpN : Nd h f := Or.inl hpI
        refine wa_aloadV (pc := 206) (y := mJ4_removeNode) dJ4_removeNode_206 rfl (by first | exact rf_s _ | exact rf_n | exact rf_q _) ?_
        refine wa_instNo (pc := 208) (y := mJ4_removeNode) (k := 13) dJ4_removeNode_208 (sF_at (by assumption)) rfl q879 (by decide +kernel) ?_
        refine wa_if_eq (pc := 211) 230 dJ4_removeNode_211 rfl (fun hb211 => ?_) (fun hb211 => absurd rfl hb211)
        refine wa_aloadV (pc := 230) (y := mJ4_removeNode) dJ4_removeNode_230 rfl (by first | exact rf_s _ | exact rf_n | exact rf_q _) ?_
        refine wa_aloadV (pc := 232) (y := mJ4_removeNode) dJ4_removeNode_232 rfl (by first | exact rf_s _ | exact rf_n | exact rf_q _) ?_
        refine wa_acneV (pc := 234) 250 dJ4_removeNode_234 rfl (by first | exact rf_s _ | exact rf_n | exact rf_q _) (by first | exact rf_s _ | exact rf_n | exact rf_q _) (fun hb234 => absurd rfl hb234) (fun hb234 => ?_)
        refine wa_aloadV (pc := 237) (y := mJ4_removeNode) dJ4_removeNode_237 rfl (by first | exact rf_s _ | exact rf_n | exact rf_q _) ?_
        refine wa_iload (pc := 239) (y := mJ4_removeNode) dJ4_removeNode_239 rfl ?_
        refine wa_aloadV (pc := 241) (y := mJ4_removeNode) dJ4_removeNode_241 rfl (by first | exact rf_s _ | exact rf_n | exact rf_q _) ?_
        refine wn_get 3 dJ4_removeNode_243 (by assumption) q1337 (Or.inl rfl) (Nat.le_of_ble_eq_true rfl) (by (repeat (first | exact updF_self _ _ _ _ | (apply updF_i; · decide) | (apply updF_a; · first | assumption | (apply Ne.symm; assumption) | omega) | (apply newF_a; · first | assumption | (apply Ne.symm; assumption) | omega) | exact newL_self (by rfl) | exact newF_self (by rfl) | (apply cpyF_a; · first | assumption | (apply Ne.symm; assumption) | omega))) <;> first | assumption | rfl) ?_
        refine wf_aastoreV (pc := 246) (y := mJ4_removeNode) "java/util/HashMap$Node" dJ4_removeNode_246 htb (Or.inr ⟨rfl, rfl⟩) (by omega) (rf_q _) (fun z hz => Nd.stor (Or.inl (hI z (by rw [hB]; simp [head_mem hz])))) ?_
        refine wa_goto (pc := 247) (y := mJ4_removeNode) 260 dJ4_removeNode_247 rfl ?_
        exact fin [] C f _ _ _ _ _ _ _ hB hpx hI (FrP.refl.upd (Or.inl ⟨rfl, rfl⟩)) (updF_self _ _ _ _) (fun z hz => by cases hz) (fun z hz => updF_a (hne9.2 z (hsub z (by rw [hB]; simp [hz]))).2 rfl) hc
      have none9 : ∀ (v7 v8 v9 v11 v12 v13 : Value), (∀ z, z ∈ B bi → kF F z ≠ x) → WA G d mJ4_removeNode 171 [.ref m, .int (Int32.ofNat x), .ref q, .null, .int 0, .int (bI mv), .ref tb, v7, v8, v9, .null, v11, v12, v13] [] (sF h F) (RmvQ m h F ns k x mv) := by
        intro v7 v8 v9 v11 v12 v13 h9
        refine wa_aloadV (pc := 171) (y := mJ4_removeNode) dJ4_removeNode_171 rfl (by first | exact rf_s _ | exact rf_n | exact rf_q _) ?_
        refine wa_ifnullN (pc := 173) (y := mJ4_removeNode) 289 dJ4_removeNode_173 rfl ?_
        refine wa_null (pc := 289) (y := mJ4_removeNode) dJ4_removeNode_289 ?_
        refine wa_areturnV (pc := 290) (y := mJ4_removeNode) (.object "java/util/HashMap$Node") dJ4_removeNode_290 rfl (Or.inl ⟨_, rfl⟩) (by first | exact rf_s _ | exact rf_n | exact rf_q _) (Or.inl ⟨hno h9, rfl, rfl⟩)
      have fnd : ∀ (a : List Nat) (w p : Nat) (b : List Nat) (v8 v11 v12 v13 : Value), (∀ z, z ∈ B bi → Is h z 13 6) → ChE F 3 (B bi) none → B bi = a ++ w :: p :: b → kF F p = x → WA G d mJ4_removeNode 171 [.ref m, .int (Int32.ofNat x), .ref q, .null, .int 0, .int (bI mv), .ref tb, .ref w, v8, .int (Int32.ofNat bi), .ref p, v11, v12, v13] [] (sF h F) (RmvQ m h F ns k x mv) := by
        intro a w p b v8 v11 v12 v13 h1 h2 h3 h4
        refine wa_aloadV (pc := 171) (y := mJ4_removeNode) dJ4_removeNode_171 rfl (by first | exact rf_s _ | exact rf_n | exact rf_q _) ?_
        refine wa_ifnull (pc := 173) (y := mJ4_removeNode) dJ4_removeNode_173 ?_
        refine wa_iload (pc := 176) (y := mJ4_removeNode) dJ4_removeNode_176 rfl ?_
        refine wa_if_eq (pc := 178) 206 dJ4_removeNode_178 rfl (fun hb178 => ?_) (fun hb178 => absurd rfl hb178)
        exact pl206 a w p b _ _ _ _ h1 h2 h3 h4
      have h81 : ∀ v11 v12 : Value, v11.category = 1 → v12.category = 1 → kF F f ≠ x → WA G d mJ4_removeNode 81 [.ref m, .int (Int32.ofNat x), .ref q, .null, .int 0, .int (bI mv), .ref tb, .ref f, .int (Int32.ofNat (2 ^ k)), .int (Int32.ofNat bi), .null, v11, v12, .retAddr 0] [] (sF h F) (RmvQ m h F ns k x mv) := by
        intro v11 v12 c11 c12 hfx
        cases hC : C with
        | nil =>
          rw [hC] at f3
          have f3 : F f 3 = .null := f3
          refine wa_aloadV (pc := 81) (y := mJ4_removeNode) dJ4_removeNode_81 rfl (by first | exact rf_s _ | exact rf_n | exact rf_q _) ?_
          refine wn_get 3 dJ4_removeNode_83 (by assumption) q1337 (Or.inl rfl) (Nat.le_of_ble_eq_true rfl) (by (repeat (first | exact updF_self _ _ _ _ | (apply updF_i; · decide) | (apply updF_a; · first | assumption | (apply Ne.symm; assumption) | omega) | (apply newF_a; · first | assumption | (apply Ne.symm; assumption) | omega) | exact newL_self (by rfl) | exact newF_self (by rfl) | (apply cpyF_a; · first | assumption | (apply Ne.symm; assumption) | omega))) <;> first | assumption | rfl) ?_
          refine wa_dup (pc := 86) (y := mJ4_removeNode) dJ4_removeNode_86 (by first | rfl | exact rf_cat _) ?_
          refine wa_astoreV (pc := 87) (y := mJ4_removeNode) dJ4_removeNode_87 (Nat.le_of_ble_eq_true rfl) (by first | rfl | (simp [okst, rf_cat] <;> assumption)) (by first | exact rf_s _ | exact rf_n | exact rf_q _) ?_
          simp only [List.set_cons_zero, List.set_cons_succ]
          refine wa_ifnullN (pc := 89) (y := mJ4_removeNode) 171 dJ4_removeNode_89 rfl ?_
          exact none9 _ _ _ _ _ _ fun z hz => by rw [hB, hC] at hz; simp at hz; rw [hz]; exact hfx
        | cons e C2 =>
          rw [hC] at f3
          have f3 : F f 3 = .ref e := f3
          rcases b2 with lb | tbn
          · have hI13 : ∀ z, z ∈ B bi → Is h z 13 6 := fun z hz => lb.1 z hz
            have hfI := hI13 f hfB
            have loop : ∀ (rest a : List Nat) (w e : Nat) (v12 : Value), v12.category = 1 → B bi = a ++ w :: e :: rest → (∀ z, z ∈ a ++ [w] → kF F z ≠ x) →
                WA G d mJ4_removeNode 115 [.ref m, .int (Int32.ofNat x), .ref q, .null, .int 0, .int (bI mv), .ref tb, .ref w, .int (Int32.ofNat (2 ^ k)), .int (Int32.ofNat bi), .null, .ref e, v12, .retAddr 0] [] (sF h F) (RmvQ m h F ns k x mv) := by
              intro rest
              induction rest with
              | nil =>
                intro a w e v12 c12 ha hno9
                have heB : e ∈ B bi := by rw [ha]; simp
                have hens := hsub e heB
                obtain ⟨eN, ⟨e0, eq, e1, eK⟩, e2⟩ := mN e hens
                have eκ := eK.2.2.2
                have e3 : F e 3 = va_rf none := by have := lb.2; rw [ha, show a ++ [w, e] = (a ++ [w]) ++ [e] by simp] at this; exact ChE.mem this
                refine wa_aloadV (pc := 115) (y := mJ4_removeNode) dJ4_removeNode_115 rfl (by first | exact rf_s _ | exact rf_n | exact rf_q _) ?_
                refine wn_get 0 dJ4_removeNode_117 (by assumption) q1319 (Or.inl rfl) (Nat.le_of_ble_eq_true rfl) (by (repeat (first | exact updF_self _ _ _ _ | (apply updF_i; · decide) | (apply updF_a; · first | assumption | (apply Ne.symm; assumption) | omega) | (apply newF_a; · first | assumption | (apply Ne.symm; assumption) | omega) | exact newL_self (by rfl) | exact newF_self (by rfl) | (apply cpyF_a; · first | assumption | (apply Ne.symm; assumption) | omega))) <;> first | assumption | rfl) ?_
                refine wa_iload_n (pc := 120) (y := mJ4_removeNode) dJ4_removeNode_120 rfl ?_
                refine wa_icmp_ne (pc := 121) 156 dJ4_removeNode_121 rfl (fun hb121 => ?_) (fun hb121 => ?_)
                · have hex : kF F e ≠ x := fun e9 => hb121 (by rw [e9])
                  refine wa_aloadV (pc := 156) (y := mJ4_removeNode) dJ4_removeNode_156 rfl (by first | exact rf_s _ | exact rf_n | exact rf_q _) ?_
                  refine wa_astoreV (pc := 158) (y := mJ4_removeNode) dJ4_removeNode_158 (Nat.le_of_ble_eq_true rfl) (by first | rfl | (simp [okst, rf_cat] <;> assumption)) (by first | exact rf_s _ | exact rf_n | exact rf_q _) ?_
                  simp only [List.set_cons_zero, List.set_cons_succ]
                  refine wa_aloadV (pc := 160) (y := mJ4_removeNode) dJ4_removeNode_160 rfl (by first | exact rf_s _ | exact rf_n | exact rf_q _) ?_
                  refine wn_get 3 dJ4_removeNode_162 (by assumption) q1337 (Or.inl rfl) (Nat.le_of_ble_eq_true rfl) (by (repeat (first | exact updF_self _ _ _ _ | (apply updF_i; · decide) | (apply updF_a; · first | assumption | (apply Ne.symm; assumption) | omega) | (apply newF_a; · first | assumption | (apply Ne.symm; assumption) | omega) | exact newL_self (by rfl) | exact newF_self (by rfl) | (apply cpyF_a; · first | assumption | (apply Ne.symm; assumption) | omega))) <;> first | assumption | rfl) ?_
                  refine wa_dup (pc := 165) (y := mJ4_removeNode) dJ4_removeNode_165 (by first | rfl | exact rf_cat _) ?_
                  refine wa_astoreV (pc := 166) (y := mJ4_removeNode) dJ4_removeNode_166 (Nat.le_of_ble_eq_true rfl) (by first | rfl | (simp [okst, rf_cat] <;> assumption)) (by first | exact rf_s _ | exact rf_n | exact rf_q _) ?_
                  simp only [List.set_cons_zero, List.set_cons_succ]
                  refine wa_ifnonnullN (pc := 168) (y := mJ4_removeNode) dJ4_removeNode_168 ?_
                  first | exact fnd a w e [] _ _ _ _ hI13 lb.2 ha hex | exact none9 _ _ _ _ _ _ fun z hz => (by rw [ha] at hz; simp at hz; rcases hz with hz | hz | hz; exact hno9 z (by simp [hz]); exact hno9 z (by simp [hz]); (rw [hz]; exact hex))
                · have hex := (iN_eq (by omega) (by omega)).mp hb121
                  refine wa_aloadV (pc := 124) (y := mJ4_removeNode) dJ4_removeNode_124 rfl (by first | exact rf_s _ | exact rf_n | exact rf_q _) ?_
                  refine wn_get 1 dJ4_removeNode_126 (by assumption) q1326 (Or.inl rfl) (Nat.le_of_ble_eq_true rfl) (by (repeat (first | exact updF_self _ _ _ _ | (apply updF_i; · decide) | (apply updF_a; · first | assumption | (apply Ne.symm; assumption) | omega) | (apply newF_a; · first | assumption | (apply Ne.symm; assumption) | omega) | exact newL_self (by rfl) | exact newF_self (by rfl) | (apply cpyF_a; · first | assumption | (apply Ne.symm; assumption) | omega))) <;> first | assumption | rfl) ?_
                  refine wa_dup (pc := 129) (y := mJ4_removeNode) dJ4_removeNode_129 (by first | rfl | exact rf_cat _) ?_
                  refine wa_astoreV (pc := 130) (y := mJ4_removeNode) dJ4_removeNode_130 (Nat.le_of_ble_eq_true rfl) (by first | rfl | (simp [okst, rf_cat] <;> assumption)) (by first | exact rf_s _ | exact rf_n | exact rf_q _) ?_
                  simp only [List.set_cons_zero, List.set_cons_succ]
                  refine wa_aloadV_n (pc := 132) (y := mJ4_removeNode) dJ4_removeNode_132 rfl (by first | exact rf_s _ | exact rf_n | exact rf_q _) ?_
                  refine wa_aceqV (pc := 133) 149 dJ4_removeNode_133 rfl (by first | exact rf_s _ | exact rf_n | exact rf_q _) (by first | exact rf_s _ | exact rf_n | exact rf_q _) (fun hb133 => ?_) (fun hb133 => ?_)
                  · refine wa_aloadV (pc := 149) (y := mJ4_removeNode) dJ4_removeNode_149 rfl (by first | exact rf_s _ | exact rf_n | exact rf_q _) ?_
                    refine wa_astoreV (pc := 151) (y := mJ4_removeNode) dJ4_removeNode_151 (Nat.le_of_ble_eq_true rfl) (by first | rfl | (simp [okst, rf_cat] <;> assumption)) (by first | exact rf_s _ | exact rf_n | exact rf_q _) ?_
                    simp only [List.set_cons_zero, List.set_cons_succ]
                    refine wa_goto (pc := 153) (y := mJ4_removeNode) 171 dJ4_removeNode_153 rfl ?_
                    first | exact fnd a w e [] _ _ _ _ hI13 lb.2 ha hex | exact none9 _ _ _ _ _ _ fun z hz => (by rw [ha] at hz; simp at hz; rcases hz with hz | hz | hz; exact hno9 z (by simp [hz]); exact hno9 z (by simp [hz]); (rw [hz]; exact hex))
                  · refine wa_aloadV_n (pc := 136) (y := mJ4_removeNode) dJ4_removeNode_136 rfl (by first | exact rf_s _ | exact rf_n | exact rf_q _) ?_
                    refine wa_ifnull (pc := 137) (y := mJ4_removeNode) dJ4_removeNode_137 ?_
                    refine wa_aloadV_n (pc := 140) (y := mJ4_removeNode) dJ4_removeNode_140 rfl (by first | exact rf_s _ | exact rf_n | exact rf_q _) ?_
                    refine wa_aloadV (pc := 141) (y := mJ4_removeNode) dJ4_removeNode_141 rfl (by first | exact rf_s _ | exact rf_n | exact rf_q _) ?_
                    refine wa_callW (k := 4) (pc := 143) (owner := "java/lang/Object") (s_X5_equals (d := d - 1) K eK) dJ4_removeNode_143 okX5_equals rfl q844 q846 (hDc_code q845 q878) (by decide) q853 q854 (sF_at (by assumption)) rfl rfl rfl rfl (Nat.le_of_ble_eq_true rfl) (Nat.le_of_ble_eq_true rfl) (by omega) ?_
                    rintro _ _ - - ⟨rfl, rfl⟩
                    refine aft_v (pc2 := 146) ?_ rfl
                    refine wa_if_eq (pc := 146) 156 dJ4_removeNode_146 rfl (fun hb146 => absurd (bI_0.mp hb146) (by simp; omega)) (fun hb146 => ?_)
                    refine wa_aloadV (pc := 149) (y := mJ4_removeNode) dJ4_removeNode_149 rfl (by first | exact rf_s _ | exact rf_n | exact rf_q _) ?_
                    refine wa_astoreV (pc := 151) (y := mJ4_removeNode) dJ4_removeNode_151 (Nat.le_of_ble_eq_true rfl) (by first | rfl | (simp [okst, rf_cat] <;> assumption)) (by first | exact rf_s _ | exact rf_n | exact rf_q _) ?_
                    simp only [List.set_cons_zero, List.set_cons_succ]
                    refine wa_goto (pc := 153) (y := mJ4_removeNode) 171 dJ4_removeNode_153 rfl ?_
                    first | exact fnd a w e [] _ _ _ _ hI13 lb.2 ha hex | exact none9 _ _ _ _ _ _ fun z hz => (by rw [ha] at hz; simp at hz; rcases hz with hz | hz | hz; exact hno9 z (by simp [hz]); exact hno9 z (by simp [hz]); (rw [hz]; exact hex))
              | cons e2 rest ih =>
                intro a w e v12 c12 ha hno9
                have heB : e ∈ B bi := by rw [ha]; simp
                have hens := hsub e heB
                obtain ⟨eN, ⟨e0, eq, e1, eK⟩, -⟩ := mN e hens
                have eκ := eK.2.2.2
                have e3 : F e 3 = va_rf (some e2) := by have := lb.2; rw [ha, show a ++ w :: e :: e2 :: rest = (a ++ [w]) ++ e :: e2 :: rest by simp] at this; exact ChE.mem this
                refine wa_aloadV (pc := 115) (y := mJ4_removeNode) dJ4_removeNode_115 rfl (by first | exact rf_s _ | exact rf_n | exact rf_q _) ?_
                refine wn_get 0 dJ4_removeNode_117 (by assumption) q1319 (Or.inl rfl) (Nat.le_of_ble_eq_true rfl) (by (repeat (first | exact updF_self _ _ _ _ | (apply updF_i; · decide) | (apply updF_a; · first | assumption | (apply Ne.symm; assumption) | omega) | (apply newF_a; · first | assumption | (apply Ne.symm; assumption) | omega) | exact newL_self (by rfl) | exact newF_self (by rfl) | (apply cpyF_a; · first | assumption | (apply Ne.symm; assumption) | omega))) <;> first | assumption | rfl) ?_
                refine wa_iload_n (pc := 120) (y := mJ4_removeNode) dJ4_removeNode_120 rfl ?_
                refine wa_icmp_ne (pc := 121) 156 dJ4_removeNode_121 rfl (fun hb121 => ?_) (fun hb121 => ?_)
                · have hex : kF F e ≠ x := fun e9 => hb121 (by rw [e9])
                  refine wa_aloadV (pc := 156) (y := mJ4_removeNode) dJ4_removeNode_156 rfl (by first | exact rf_s _ | exact rf_n | exact rf_q _) ?_
                  refine wa_astoreV (pc := 158) (y := mJ4_removeNode) dJ4_removeNode_158 (Nat.le_of_ble_eq_true rfl) (by first | rfl | (simp [okst, rf_cat] <;> assumption)) (by first | exact rf_s _ | exact rf_n | exact rf_q _) ?_
                  simp only [List.set_cons_zero, List.set_cons_succ]
                  refine wa_aloadV (pc := 160) (y := mJ4_removeNode) dJ4_removeNode_160 rfl (by first | exact rf_s _ | exact rf_n | exact rf_q _) ?_
                  refine wn_get 3 dJ4_removeNode_162 (by assumption) q1337 (Or.inl rfl) (Nat.le_of_ble_eq_true rfl) (by (repeat (first | exact updF_self _ _ _ _ | (apply updF_i; · decide) | (apply updF_a; · first | assumption | (apply Ne.symm; assumption) | omega) | (apply newF_a; · first | assumption | (apply Ne.symm; assumption) | omega) | exact newL_self (by rfl) | exact newF_self (by rfl) | (apply cpyF_a; · first | assumption | (apply Ne.symm; assumption) | omega))) <;> first | assumption | rfl) ?_
                  refine wa_dup (pc := 165) (y := mJ4_removeNode) dJ4_removeNode_165 (by first | rfl | exact rf_cat _) ?_
                  refine wa_astoreV (pc := 166) (y := mJ4_removeNode) dJ4_removeNode_166 (Nat.le_of_ble_eq_true rfl) (by first | rfl | (simp [okst, rf_cat] <;> assumption)) (by first | exact rf_s _ | exact rf_n | exact rf_q _) ?_
                  simp only [List.set_cons_zero, List.set_cons_succ]
                  refine wa_ifnonnull (pc := 168) (y := mJ4_removeNode) 115 dJ4_removeNode_168 rfl ?_
                  exact ih (a ++ [w]) e e2 v12 c12 (by rw [ha]; simp) (fun z hz => by simp at hz; rcases hz with hz | hz | hz; exact hno9 z (by simp [hz]); exact hno9 z (by simp [hz]); (rw [hz]; exact hex))
                · have hex := (iN_eq (by omega) (by omega)).mp hb121
                  refine wa_aloadV (pc := 124) (y := mJ4_removeNode) dJ4_removeNode_124 rfl (by first | exact rf_s _ | exact rf_n | exact rf_q _) ?_
                  refine wn_get 1 dJ4_removeNode_126 (by assumption) q1326 (Or.inl rfl) (Nat.le_of_ble_eq_true rfl) (by (repeat (first | exact updF_self _ _ _ _ | (apply updF_i; · decide) | (apply updF_a; · first | assumption | (apply Ne.symm; assumption) | omega) | (apply newF_a; · first | assumption | (apply Ne.symm; assumption) | omega) | exact newL_self (by rfl) | exact newF_self (by rfl) | (apply cpyF_a; · first | assumption | (apply Ne.symm; assumption) | omega))) <;> first | assumption | rfl) ?_
                  refine wa_dup (pc := 129) (y := mJ4_removeNode) dJ4_removeNode_129 (by first | rfl | exact rf_cat _) ?_
                  refine wa_astoreV (pc := 130) (y := mJ4_removeNode) dJ4_removeNode_130 (Nat.le_of_ble_eq_true rfl) (by first | rfl | (simp [okst, rf_cat] <;> assumption)) (by first | exact rf_s _ | exact rf_n | exact rf_q _) ?_
                  simp only [List.set_cons_zero, List.set_cons_succ]
                  refine wa_aloadV_n (pc := 132) (y := mJ4_removeNode) dJ4_removeNode_132 rfl (by first | exact rf_s _ | exact rf_n | exact rf_q _) ?_
                  refine wa_aceqV (pc := 133) 149 dJ4_removeNode_133 rfl (by first | exact rf_s _ | exact rf_n | exact rf_q _) (by first | exact rf_s _ | exact rf_n | exact rf_q _) (fun hb133 => ?_) (fun hb133 => ?_)
                  · refine wa_aloadV (pc := 149) (y := mJ4_removeNode) dJ4_removeNode_149 rfl (by first | exact rf_s _ | exact rf_n | exact rf_q _) ?_
                    refine wa_astoreV (pc := 151) (y := mJ4_removeNode) dJ4_removeNode_151 (Nat.le_of_ble_eq_true rfl) (by first | rfl | (simp [okst, rf_cat] <;> assumption)) (by first | exact rf_s _ | exact rf_n | exact rf_q _) ?_
                    simp only [List.set_cons_zero, List.set_cons_succ]
                    refine wa_goto (pc := 153) (y := mJ4_removeNode) 171 dJ4_removeNode_153 rfl ?_
                    exact fnd a w e (e2 :: rest) _ _ _ _ hI13 lb.2 ha hex
                  · refine wa_aloadV_n (pc := 136) (y := mJ4_removeNode) dJ4_removeNode_136 rfl (by first | exact rf_s _ | exact rf_n | exact rf_q _) ?_
                    refine wa_ifnull (pc := 137) (y := mJ4_removeNode) dJ4_removeNode_137 ?_
                    refine wa_aloadV_n (pc := 140) (y := mJ4_removeNode) dJ4_removeNode_140 rfl (by first | exact rf_s _ | exact rf_n | exact rf_q _) ?_
                    refine wa_aloadV (pc := 141) (y := mJ4_removeNode) dJ4_removeNode_141 rfl (by first | exact rf_s _ | exact rf_n | exact rf_q _) ?_
                    refine wa_callW (k := 4) (pc := 143) (owner := "java/lang/Object") (s_X5_equals (d := d - 1) K eK) dJ4_removeNode_143 okX5_equals rfl q844 q846 (hDc_code q845 q878) (by decide) q853 q854 (sF_at (by assumption)) rfl rfl rfl rfl (Nat.le_of_ble_eq_true rfl) (Nat.le_of_ble_eq_true rfl) (by omega) ?_
                    rintro _ _ - - ⟨rfl, rfl⟩
                    refine aft_v (pc2 := 146) ?_ rfl
                    refine wa_if_eq (pc := 146) 156 dJ4_removeNode_146 rfl (fun hb146 => absurd (bI_0.mp hb146) (by simp; omega)) (fun hb146 => ?_)
                    refine wa_aloadV (pc := 149) (y := mJ4_removeNode) dJ4_removeNode_149 rfl (by first | exact rf_s _ | exact rf_n | exact rf_q _) ?_
                    refine wa_astoreV (pc := 151) (y := mJ4_removeNode) dJ4_removeNode_151 (Nat.le_of_ble_eq_true rfl) (by first | rfl | (simp [okst, rf_cat] <;> assumption)) (by first | exact rf_s _ | exact rf_n | exact rf_q _) ?_
                    simp only [List.set_cons_zero, List.set_cons_succ]
                    refine wa_goto (pc := 153) (y := mJ4_removeNode) 171 dJ4_removeNode_153 rfl ?_
                    exact fnd a w e (e2 :: rest) _ _ _ _ hI13 lb.2 ha hex
            refine wa_aloadV (pc := 81) (y := mJ4_removeNode) dJ4_removeNode_81 rfl (by first | exact rf_s _ | exact rf_n | exact rf_q _) ?_
            refine wn_get 3 dJ4_removeNode_83 (by assumption) q1337 (Or.inl rfl) (Nat.le_of_ble_eq_true rfl) (by (repeat (first | exact updF_self _ _ _ _ | (apply updF_i; · decide) | (apply updF_a; · first | assumption | (apply Ne.symm; assumption) | omega) | (apply newF_a; · first | assumption | (apply Ne.symm; assumption) | omega) | exact newL_self (by rfl) | exact newF_self (by rfl) | (apply cpyF_a; · first | assumption | (apply Ne.symm; assumption) | omega))) <;> first | assumption | rfl) ?_
            refine wa_dup (pc := 86) (y := mJ4_removeNode) dJ4_removeNode_86 (by first | rfl | exact rf_cat _) ?_
            refine wa_astoreV (pc := 87) (y := mJ4_removeNode) dJ4_removeNode_87 (Nat.le_of_ble_eq_true rfl) (by first | rfl | (simp [okst, rf_cat] <;> assumption)) (by first | exact rf_s _ | exact rf_n | exact rf_q _) ?_
            simp only [List.set_cons_zero, List.set_cons_succ]
            refine wa_ifnull (pc := 89) (y := mJ4_removeNode) dJ4_removeNode_89 ?_
            refine wa_aloadV (pc := 92) (y := mJ4_removeNode) dJ4_removeNode_92 rfl (by first | exact rf_s _ | exact rf_n | exact rf_q _) ?_
            refine wa_instNo (pc := 94) (y := mJ4_removeNode) (k := 13) dJ4_removeNode_94 (sF_at (by assumption)) rfl q879 (by decide +kernel) ?_
            refine wa_if_eq (pc := 97) 115 dJ4_removeNode_97 rfl (fun hb97 => ?_) (fun hb97 => absurd rfl hb97)
            exact loop C2 [] f e v12 c12 (by rw [hB, hC]; rfl) (fun z hz => by simp at hz; rw [hz]; exact hfx)
          · have hfI := tbn.is hfB
            have tbn9 := tbn
            obtain ⟨dl, root, L, R, P, Co, lo, hi, rk, M0, t0, tl⟩ := tbn
            refine wa_aloadV (pc := 81) (y := mJ4_removeNode) dJ4_removeNode_81 rfl (by first | exact rf_s _ | exact rf_n | exact rf_q _) ?_
            refine wn_get 3 dJ4_removeNode_83 (by assumption) q1337 (Or.inl rfl) (Nat.le_of_ble_eq_true rfl) (by (repeat (first | exact updF_self _ _ _ _ | (apply updF_i; · decide) | (apply updF_a; · first | assumption | (apply Ne.symm; assumption) | omega) | (apply newF_a; · first | assumption | (apply Ne.symm; assumption) | omega) | exact newL_self (by rfl) | exact newF_self (by rfl) | (apply cpyF_a; · first | assumption | (apply Ne.symm; assumption) | omega))) <;> first | assumption | rfl) ?_
            refine wa_dup (pc := 86) (y := mJ4_removeNode) dJ4_removeNode_86 (by first | rfl | exact rf_cat _) ?_
            refine wa_astoreV (pc := 87) (y := mJ4_removeNode) dJ4_removeNode_87 (Nat.le_of_ble_eq_true rfl) (by first | rfl | (simp [okst, rf_cat] <;> assumption)) (by first | exact rf_s _ | exact rf_n | exact rf_q _) ?_
            simp only [List.set_cons_zero, List.set_cons_succ]
            refine wa_ifnull (pc := 89) (y := mJ4_removeNode) dJ4_removeNode_89 ?_
            refine wa_aloadV (pc := 92) (y := mJ4_removeNode) dJ4_removeNode_92 rfl (by first | exact rf_s _ | exact rf_n | exact rf_q _) ?_
            refine wa_instS (pc := 94) (y := mJ4_removeNode) (k := 14) dJ4_removeNode_94 (sF_at (by assumption)) rfl q879 ?_
            refine wa_if_eq (pc := 97) 115 dJ4_removeNode_97 rfl (fun hb97 => absurd hb97 (by decide)) (fun hb97 => ?_)
            refine wa_aloadV (pc := 100) (y := mJ4_removeNode) dJ4_removeNode_100 rfl (by first | exact rf_s _ | exact rf_n | exact rf_q _) ?_
            refine wa_castS (pc := 102) (y := mJ4_removeNode) (k := 14) dJ4_removeNode_102 (sF_at (by assumption)) rfl q879 ?_
            refine wa_iload_n (pc := 105) (y := mJ4_removeNode) dJ4_removeNode_105 rfl ?_
            refine wa_aloadV_n (pc := 106) (y := mJ4_removeNode) dJ4_removeNode_106 rfl (by first | exact rf_s _ | exact rf_n | exact rf_q _) ?_
            refine wa_callV (pc := 107) (s_J26_getTreeNode (d := d - 1) (by omega) t0 tl (fun a b ha hb => minj a b (hsub a ha) (hsub b hb)) (fun p hp => (mN p (hsub p hp)).2.1) K hfB hx) dJ4_removeNode_107 okJ26_getTreeNode q880 q881 q882 (sF_at (by assumption)) rfl rfl rfl (Nat.le_of_ble_eq_true rfl) (Nat.le_of_ble_eq_true rfl) (by omega) ?_
            rintro _ _ - - ⟨o, rfl, rfl, o1, o2⟩
            refine aft_v (pc2 := 110) ?_ rfl
            refine wa_astoreV (pc := 110) (y := mJ4_removeNode) dJ4_removeNode_110 (Nat.le_of_ble_eq_true rfl) (by first | rfl | (simp [okst, rf_cat] <;> assumption)) (by first | exact rf_s _ | exact rf_n | exact rf_q _) ?_
            simp only [List.set_cons_zero, List.set_cons_succ]
            refine wa_goto (pc := 112) (y := mJ4_removeNode) 171 dJ4_removeNode_112 rfl ?_
            refine wa_aloadV (pc := 171) (y := mJ4_removeNode) dJ4_removeNode_171 rfl (by first | exact rf_s _ | exact rf_n | exact rf_q _) ?_
            refine wa_ifnullV (pc := 173) 289 dJ4_removeNode_173 rfl (by first | exact rf_s _ | exact rf_n | exact rf_q _) (fun hb173 => ?_) (fun a173 hb173 => ?_)
            · refine wa_null (pc := 289) (y := mJ4_removeNode) dJ4_removeNode_289 ?_
              refine wa_areturnV (pc := 290) (y := mJ4_removeNode) (.object "java/util/HashMap$Node") dJ4_removeNode_290 rfl (Or.inl ⟨_, rfl⟩) (by first | exact rf_s _ | exact rf_n | exact rf_q _) (Or.inl ⟨hno (o2 hb173), rfl, rfl⟩)
            · have hp9 := o1 _ hb173
              rw [hb173]
              refine wa_iload (pc := 176) (y := mJ4_removeNode) dJ4_removeNode_176 rfl ?_
              refine wa_if_eq (pc := 178) 206 dJ4_removeNode_178 rfl (fun hb178 => ?_) (fun hb178 => absurd rfl hb178)
              exact tree _ _ _ _ _ _ tbn9 hp9.1 hp9.2
      refine wa_aloadV_n (pc := 0) (y := mJ4_removeNode) dJ4_removeNode_0 rfl (by first | exact rf_s _ | exact rf_n | exact rf_q _) ?_
      refine wf_get (k := 12) (l := 12) 0 dJ4_removeNode_1 (by assumption) rfl q207 (Or.inl rfl) (Nat.le_of_ble_eq_true rfl) (Nat.le_of_ble_eq_true rfl) (by (repeat (first | exact updF_self _ _ _ _ | (apply updF_i; · decide) | (apply updF_a; · first | assumption | (apply Ne.symm; assumption) | omega) | (apply newF_a; · first | assumption | (apply Ne.symm; assumption) | omega) | exact newL_self (by rfl) | exact newF_self (by rfl) | (apply cpyF_a; · first | assumption | (apply Ne.symm; assumption) | omega))) <;> first | assumption | rfl) ?_
      refine wa_dup (pc := 4) (y := mJ4_removeNode) dJ4_removeNode_4 (by first | rfl | exact rf_cat _) ?_
      refine wa_astoreV (pc := 5) (y := mJ4_removeNode) dJ4_removeNode_5 (Nat.le_of_ble_eq_true rfl) (by first | rfl | (simp [okst, rf_cat] <;> assumption)) (by first | exact rf_s _ | exact rf_n | exact rf_q _) ?_
      simp only [List.set_cons_zero, List.set_cons_succ]
      refine wa_ifnull (pc := 7) (y := mJ4_removeNode) dJ4_removeNode_7 ?_
      refine wa_aloadV (pc := 10) (y := mJ4_removeNode) dJ4_removeNode_10 rfl (by first | exact rf_s _ | exact rf_n | exact rf_q _) ?_
      refine wf_alen dJ4_removeNode_12 (by assumption) (by decide) ?_
      refine wa_dup (pc := 13) (y := mJ4_removeNode) dJ4_removeNode_13 (by first | rfl | exact rf_cat _) ?_
      refine wa_istore (pc := 14) (y := mJ4_removeNode) dJ4_removeNode_14 (Nat.le_of_ble_eq_true rfl) (by first | rfl | (simp [okst, rf_cat] <;> assumption)) ?_
      simp only [List.set_cons_zero, List.set_cons_succ]
      refine wa_if_le (pc := 16) 289 dJ4_removeNode_16 rfl (fun hb16 => absurd hb16 hpos) (fun hb16 => ?_)
      refine wa_aloadV (pc := 19) (y := mJ4_removeNode) dJ4_removeNode_19 rfl (by first | exact rf_s _ | exact rf_n | exact rf_q _) ?_
      refine wa_iload (pc := 21) (y := mJ4_removeNode) dJ4_removeNode_21 rfl ?_
      refine wa_iconst (pc := 23) (y := mJ4_removeNode) (Int32.ofNat 1) dJ4_removeNode_23 rfl ?_
      refine wa_isub (pc := 24) (y := mJ4_removeNode) dJ4_removeNode_24 ?_
      rw [iN_sub (by omega)]
      refine wa_iload_n (pc := 25) (y := mJ4_removeNode) dJ4_removeNode_25 rfl ?_
      refine wa_iand (pc := 26) (y := mJ4_removeNode) dJ4_removeNode_26 ?_
      rw [iN_and, and_mod, hbi]
      refine wa_dup (pc := 27) (y := mJ4_removeNode) dJ4_removeNode_27 (by first | rfl | exact rf_cat _) ?_
      refine wa_istore (pc := 28) (y := mJ4_removeNode) dJ4_removeNode_28 (Nat.le_of_ble_eq_true rfl) (by first | rfl | (simp [okst, rf_cat] <;> assumption)) ?_
      simp only [List.set_cons_zero, List.set_cons_succ]
      refine wf_aaload dJ4_removeNode_30 (by assumption) (by first | exact Or.inl rfl | exact Or.inr rfl) (by omega) (by (repeat (first | exact updF_self _ _ _ _ | (apply updF_i; · decide) | (apply updF_a; · first | assumption | (apply Ne.symm; assumption) | omega) | (apply newF_a; · first | assumption | (apply Ne.symm; assumption) | omega) | exact newL_self (by rfl) | exact newF_self (by rfl) | (apply cpyF_a; · first | assumption | (apply Ne.symm; assumption) | omega))) <;> first | assumption | rfl) ?_
      refine wa_dup (pc := 31) (y := mJ4_removeNode) dJ4_removeNode_31 (by first | rfl | exact rf_cat _) ?_
      refine wa_astoreV (pc := 32) (y := mJ4_removeNode) dJ4_removeNode_32 (Nat.le_of_ble_eq_true rfl) (by first | rfl | (simp [okst, rf_cat] <;> assumption)) (by first | exact rf_s _ | exact rf_n | exact rf_q _) ?_
      simp only [List.set_cons_zero, List.set_cons_succ]
      refine wa_ifnull (pc := 34) (y := mJ4_removeNode) dJ4_removeNode_34 ?_
      refine wa_null (pc := 37) (y := mJ4_removeNode) dJ4_removeNode_37 ?_
      refine wa_astoreV (pc := 38) (y := mJ4_removeNode) dJ4_removeNode_38 (Nat.le_of_ble_eq_true rfl) (by first | rfl | (simp [okst, rf_cat] <;> assumption)) (by first | exact rf_s _ | exact rf_n | exact rf_q _) ?_
      simp only [List.set_cons_zero, List.set_cons_succ]
      refine wa_aloadV (pc := 40) (y := mJ4_removeNode) dJ4_removeNode_40 rfl (by first | exact rf_s _ | exact rf_n | exact rf_q _) ?_
      refine wn_get 0 dJ4_removeNode_42 (by assumption) q1319 (Or.inl rfl) (Nat.le_of_ble_eq_true rfl) (by (repeat (first | exact updF_self _ _ _ _ | (apply updF_i; · decide) | (apply updF_a; · first | assumption | (apply Ne.symm; assumption) | omega) | (apply newF_a; · first | assumption | (apply Ne.symm; assumption) | omega) | exact newL_self (by rfl) | exact newF_self (by rfl) | (apply cpyF_a; · first | assumption | (apply Ne.symm; assumption) | omega))) <;> first | assumption | rfl) ?_
      refine wa_iload_n (pc := 45) (y := mJ4_removeNode) dJ4_removeNode_45 rfl ?_
      refine wa_icmp_ne (pc := 46) 81 dJ4_removeNode_46 rfl (fun hb46 => ?_) (fun hb46 => ?_)
      · have hfx : kF F f ≠ x := fun e => hb46 (by rw [e])
        exact h81 _ _ rfl rfl hfx
      · have hfx := (iN_eq (by omega) (by omega)).mp hb46
        refine wa_aloadV (pc := 49) (y := mJ4_removeNode) dJ4_removeNode_49 rfl (by first | exact rf_s _ | exact rf_n | exact rf_q _) ?_
        refine wn_get 1 dJ4_removeNode_51 (by assumption) q1326 (Or.inl rfl) (Nat.le_of_ble_eq_true rfl) (by (repeat (first | exact updF_self _ _ _ _ | (apply updF_i; · decide) | (apply updF_a; · first | assumption | (apply Ne.symm; assumption) | omega) | (apply newF_a; · first | assumption | (apply Ne.symm; assumption) | omega) | exact newL_self (by rfl) | exact newF_self (by rfl) | (apply cpyF_a; · first | assumption | (apply Ne.symm; assumption) | omega))) <;> first | assumption | rfl) ?_
        refine wa_dup (pc := 54) (y := mJ4_removeNode) dJ4_removeNode_54 (by first | rfl | exact rf_cat _) ?_
        refine wa_astoreV (pc := 55) (y := mJ4_removeNode) dJ4_removeNode_55 (Nat.le_of_ble_eq_true rfl) (by first | rfl | (simp [okst, rf_cat] <;> assumption)) (by first | exact rf_s _ | exact rf_n | exact rf_q _) ?_
        simp only [List.set_cons_zero, List.set_cons_succ]
        refine wa_aloadV_n (pc := 57) (y := mJ4_removeNode) dJ4_removeNode_57 rfl (by first | exact rf_s _ | exact rf_n | exact rf_q _) ?_
        refine wa_aceqV (pc := 58) 74 dJ4_removeNode_58 rfl (by first | exact rf_s _ | exact rf_n | exact rf_q _) (by first | exact rf_s _ | exact rf_n | exact rf_q _) (fun hb58 => ?_) (fun hb58 => ?_)
        · refine wa_aloadV (pc := 74) (y := mJ4_removeNode) dJ4_removeNode_74 rfl (by first | exact rf_s _ | exact rf_n | exact rf_q _) ?_
          refine wa_astoreV (pc := 76) (y := mJ4_removeNode) dJ4_removeNode_76 (Nat.le_of_ble_eq_true rfl) (by first | rfl | (simp [okst, rf_cat] <;> assumption)) (by first | exact rf_s _ | exact rf_n | exact rf_q _) ?_
          simp only [List.set_cons_zero, List.set_cons_succ]
          refine wa_goto (pc := 78) (y := mJ4_removeNode) 171 dJ4_removeNode_78 rfl ?_
          refine wa_aloadV (pc := 171) (y := mJ4_removeNode) dJ4_removeNode_171 rfl (by first | exact rf_s _ | exact rf_n | exact rf_q _) ?_
          refine wa_ifnull (pc := 173) (y := mJ4_removeNode) dJ4_removeNode_173 ?_
          refine wa_iload (pc := 176) (y := mJ4_removeNode) dJ4_removeNode_176 rfl ?_
          refine wa_if_eq (pc := 178) 206 dJ4_removeNode_178 rfl (fun hb178 => ?_) (fun hb178 => absurd rfl hb178)
          (rcases b2 with lb | tbn; exact plf _ _ _ _ (fun z hz => lb.1 z hz) lb.2 hfx; exact tree f _ _ _ _ _ tbn hfB hfx)
        · refine wa_aloadV_n (pc := 61) (y := mJ4_removeNode) dJ4_removeNode_61 rfl (by first | exact rf_s _ | exact rf_n | exact rf_q _) ?_
          refine wa_ifnull (pc := 62) (y := mJ4_removeNode) dJ4_removeNode_62 ?_
          refine wa_aloadV_n (pc := 65) (y := mJ4_removeNode) dJ4_removeNode_65 rfl (by first | exact rf_s _ | exact rf_n | exact rf_q _) ?_
          refine wa_aloadV (pc := 66) (y := mJ4_removeNode) dJ4_removeNode_66 rfl (by first | exact rf_s _ | exact rf_n | exact rf_q _) ?_
          refine wa_callW (k := 4) (pc := 68) (owner := "java/lang/Object") (s_X5_equals (d := d - 1) K fK) dJ4_removeNode_68 okX5_equals rfl q844 q846 (hDc_code q845 q878) (by decide) q853 q854 (sF_at (by assumption)) rfl rfl rfl rfl (Nat.le_of_ble_eq_true rfl) (Nat.le_of_ble_eq_true rfl) (by omega) ?_
          rintro _ _ - - ⟨rfl, rfl⟩
          refine aft_v (pc2 := 71) ?_ rfl
          refine wa_if_eq (pc := 71) 81 dJ4_removeNode_71 rfl (fun hb71 => absurd (bI_0.mp hb71) (by simp; omega)) (fun hb71 => ?_)
          refine wa_aloadV (pc := 74) (y := mJ4_removeNode) dJ4_removeNode_74 rfl (by first | exact rf_s _ | exact rf_n | exact rf_q _) ?_
          refine wa_astoreV (pc := 76) (y := mJ4_removeNode) dJ4_removeNode_76 (Nat.le_of_ble_eq_true rfl) (by first | rfl | (simp [okst, rf_cat] <;> assumption)) (by first | exact rf_s _ | exact rf_n | exact rf_q _) ?_
          simp only [List.set_cons_zero, List.set_cons_succ]
          refine wa_goto (pc := 78) (y := mJ4_removeNode) 171 dJ4_removeNode_78 rfl ?_
          refine wa_aloadV (pc := 171) (y := mJ4_removeNode) dJ4_removeNode_171 rfl (by first | exact rf_s _ | exact rf_n | exact rf_q _) ?_
          refine wa_ifnull (pc := 173) (y := mJ4_removeNode) dJ4_removeNode_173 ?_
          refine wa_iload (pc := 176) (y := mJ4_removeNode) dJ4_removeNode_176 rfl ?_
          refine wa_if_eq (pc := 178) 206 dJ4_removeNode_178 rfl (fun hb178 => ?_) (fun hb178 => absurd rfl hb178)
          (rcases b2 with lb | tbn; exact plf _ _ _ _ (fun z hz => lb.1 z hz) lb.2 hfx; exact tree f _ _ _ _ _ tbn hfB hfx)
end RMW
