/-! ===== CueStack: over the instructions (written by tools/gen9h.py) ===== -/
def LvQ (f : Nat → Int32) (p : Nat) (h : AH) (F : Nat → Nat → Value) (r : RR) (h' : AH) : Prop := ∃ (h2 : AH) (F2 : Nat → Nat → Value), r = .inl (some (.ref h.1)) ∧ h' = sF h2 F2 ∧ Fr NoP h F h2 F2 ∧ Cst 300 h h2 ∧ Is h2 h.1 32 12 ∧ ∀ c, c < 12 → F2 h.1 c = .int (lvN f c (p + 1))
def KatQ (G : GG) (h : AH) (F : Nat → Nat → Value) (own : Nat → Option Nat) (x i : Nat) (C : CA) (f : Nat → Int32) (σ : MS) (r : RR) (h' : AH) : Prop :=
  ∃ (h2 : AH) (F2 : Nat → Nat → Value) (own2 : Nat → Option Nat) (q k : Nat), r = .inl (some (.ref q)) ∧ h' = sF h2 F2 ∧ Ch 20 h F own h2 F2 own2 ∧ CompR G h2 F2 own2 x C f σ ∧ KeyAt h2 F2 q k ∧ f (162 + 4 * i) = Int32.ofNat (k / 12) ∧ f (162 + 4 * i + 1) = Int32.ofNat (k % 12)
section OPS8
variable {G : GG} {d n N : Nat} {h h2 h3 : AH} {F F2 F3 : Nat → Nat → Value} {own own2 own3 : Nat → Option Nat} {x s s1 s2 k i j m p q c a e kd : Nat} {C C2 : CA} {f f2 g : Nat → Int32} {σ σ2 : MS} {P O : Nat → Prop} {r : RR} {h' : AH} {A : SA} {v w z : Int32} {b : Bool} {ks : List Nat} {oo : OO} {h1 : AH} {F1 : Nat → Nat → Value} {it : Nat} {mc : Int32}
theorem s_X1_levelsIn (hd : 20 ≤ d) (R : CompR G h F own x C f σ) (hp : p < u (f 0)) : MA G d mX1_levelsIn [.ref x, .int (Int32.ofNat p)] (sF h F) (LvQ f p h F) := by
  have i1 := R.is
  have h12 := R.sh.1.1.1
  have hxn : x ≠ h.1 := Nat.ne_of_lt i1.lt
  have loop : ∀ (m c : Nat) (h2 : AH) (F2 : Nat → Nat → Value), c + m = 12 → Fr NoP h F h2 F2 → Cst (3 + c * 13) h h2 → Is h2 h.1 32 12 → (∀ j, j < c → F2 h.1 j = .int (lvN f j (p + 1))) → WA G d mX1_levelsIn 7 [.ref x, .int (Int32.ofNat p), .ref h.1, .int (Int32.ofNat c)] [] (sF h2 F2) (LvQ f p h F) := by
    intro m
    induction m with
    | zero =>
      intro c h2 F2 hc fr cst ia hj
      have hc : c = 12 := hc
      subst hc
      refine wa_iload_n (pc := 7) (y := mX1_levelsIn) dX1_levelsIn_7 rfl ?_
      refine wa_bipush (pc := 8) (y := mX1_levelsIn) (Int32.ofNat 12) dX1_levelsIn_8 rfl ?_
      refine wa_icmp_ge (pc := 10) 31 dX1_levelsIn_10 rfl (fun hb10 => ?_) (fun hb10 => absurd ((iN_le (by omega) (by omega)).mpr (Nat.le_refl 12)) hb10)
      refine wa_aloadV_n (pc := 31) (y := mX1_levelsIn) dX1_levelsIn_31 rfl (by first | exact rf_s _ | exact rf_n | exact rf_q _) ?_
      refine wa_areturnV (pc := 32) (y := mX1_levelsIn) (.array .int) dX1_levelsIn_32 rfl (Or.inr ⟨_, rfl⟩) (by first | exact rf_s _ | exact rf_n | exact rf_q _) ⟨h2, F2, rfl, rfl, fr, cst.mono (by omega), ia, hj⟩
    | succ m ih =>
      intro c h2 F2 hc fr cst ia hj
      obtain ⟨own2, t2, R2⟩ := R.rd fr
      have j1 := R2.is
      have j2 := R2.f0
      obtain ⟨gf2, A2, h602, S2⟩ := id R2.sh
      have j3 := S2.is
      refine wa_iload_n (pc := 7) (y := mX1_levelsIn) dX1_levelsIn_7 rfl ?_
      refine wa_bipush (pc := 8) (y := mX1_levelsIn) (Int32.ofNat 12) dX1_levelsIn_8 rfl ?_
      refine wa_icmp_ge (pc := 10) 31 dX1_levelsIn_10 rfl (fun hb10 => absurd ((iN_le (by omega) (by omega)).mp hb10) (by omega)) (fun hb10 => ?_)
      refine wa_aloadV_n (pc := 13) (y := mX1_levelsIn) dX1_levelsIn_13 rfl (by first | exact rf_s _ | exact rf_n | exact rf_q _) ?_
      refine wa_iload_n (pc := 14) (y := mX1_levelsIn) dX1_levelsIn_14 rfl ?_
      refine wa_aloadV_n (pc := 15) (y := mX1_levelsIn) dX1_levelsIn_15 rfl (by first | exact rf_s _ | exact rf_n | exact rf_q _) ?_
      refine wf_get (k := 0) (l := 9) 0 dX1_levelsIn_16 (by assumption) rfl q1111 (Or.inl rfl) (Nat.le_of_ble_eq_true rfl) (Nat.le_of_ble_eq_true rfl) (by (repeat (first | exact updF_self _ _ _ _ | (apply updF_i; · decide) | (apply updF_a; · first | assumption | (apply Ne.symm; assumption) | omega) | (apply newF_a; · first | assumption | (apply Ne.symm; assumption) | omega) | exact newL_self (by rfl) | exact newF_self (by rfl) | (apply cpyF_a; · first | assumption | (apply Ne.symm; assumption) | omega))) <;> first | assumption | rfl) ?_
      refine wa_iload_n (pc := 19) (y := mX1_levelsIn) dX1_levelsIn_19 rfl ?_
      refine wa_iload_n (pc := 20) (y := mX1_levelsIn) dX1_levelsIn_20 rfl ?_
      refine wa_callV (pc := 21) (s_X2_level (d := d - 1) (k := p) (c := c) (by omega) S2 hp (by omega)) dX1_levelsIn_21 okX2_level q406 q407 q408 (sF_at (by assumption)) rfl rfl rfl (Nat.le_of_ble_eq_true rfl) (Nat.le_of_ble_eq_true rfl) (by omega) ?_
      rintro _ _ - - ⟨h3, F3, rfl, rfl, fr3, cst3⟩
      refine aft_v (pc2 := 24) ?_ rfl
      have ib := fr3.is ia
      refine wf_iastore dX1_levelsIn_24 (by assumption) (by omega) ?_
      refine wa_iincN (pc := 25) (y := mX1_levelsIn) dX1_levelsIn_25 rfl (Nat.le_of_ble_eq_true rfl) (by first | rfl | (simp [okst, rf_cat] <;> assumption)) ?_
      simp only [List.set_cons_zero, List.set_cons_succ]
      refine wa_goto (pc := 28) (y := mX1_levelsIn) 7 dX1_levelsIn_28 rfl ?_
      exact ih (c + 1) h3 _ (by omega) ((fr.trans fr3 fun _ _ q => q).updT (Or.inr (Nat.le_refl _))) ((cst.trans cst3).mono (by omega)) ib (fun j h9 => by by_cases e : j = c; subst e; exact updF_self _ _ _ _; exact updF_i e ((fr3.at ia.lt (fun q => q) j).trans (hj j (by omega))))
  change WA G d mX1_levelsIn 0 [.ref x, .int (Int32.ofNat p), .retAddr 0, .retAddr 0] [] _ _
  refine wa_bipush (pc := 0) (y := mX1_levelsIn) (Int32.ofNat 12) dX1_levelsIn_0 rfl ?_
  refine wf_newarray 32 dX1_levelsIn_2 (by decide) (Or.inl ⟨rfl, rfl⟩) q271 ?_
  refine wa_astoreV_n (pc := 4) (y := mX1_levelsIn) dX1_levelsIn_4 (Nat.le_of_ble_eq_true rfl) (by first | rfl | (simp [okst, rf_cat] <;> assumption)) (by first | exact rf_s _ | exact rf_n | exact rf_q _) ?_
  change WA _ _ _ _ (List.set _ 2 _) _ _ _
  simp only [List.set_cons_zero, List.set_cons_succ]
  refine wa_iconst (pc := 5) (y := mX1_levelsIn) (Int32.ofNat 0) dX1_levelsIn_5 rfl ?_
  refine wa_istore_n (pc := 6) (y := mX1_levelsIn) dX1_levelsIn_6 (Nat.le_of_ble_eq_true rfl) (by first | rfl | (simp [okst, rf_cat] <;> assumption)) ?_
  change WA _ _ _ _ (List.set _ 3 _) _ _ _
  simp only [List.set_cons_zero, List.set_cons_succ]
  exact loop 12 0 _ _ (by omega) (Fr.newT Fr.refl) ⟨by show h.1 + 1 ≤ _; omega, by show h.2.1 + 12 ≤ _; omega⟩ Is.self (fun j hj => by omega)
theorem s_X1_meanLevel (hd : 9 ≤ d) (R : CompR G h F own x C f σ) : MA G d mX1_meanLevel [.ref x] (sF h F) (fun r h' => r = .inl (some (.double (O_mean f))) ∧ h' = sF h F) := by
  have i1 := R.is
  change WA G d mX1_meanLevel 0 [.ref x] [] _ _
  refine wa_aloadV_n (pc := 0) (y := mX1_meanLevel) dX1_meanLevel_0 rfl (by first | exact rf_s _ | exact rf_n | exact rf_q _) ?_
  refine wa_iconst (pc := 1) (y := mX1_meanLevel) (Int32.ofNat 2) dX1_meanLevel_1 rfl ?_
  refine wa_callV (pc := 2) (s_X1_sumOfFades (d := d - 1) (by omega) R (Or.inl rfl)) dX1_meanLevel_2 okX1_sumOfFades q1160 q1162 qs7 (sF_at (by assumption)) rfl rfl rfl (Nat.le_of_ble_eq_true rfl) (Nat.le_of_ble_eq_true rfl) (by omega) ?_
  rintro _ _ - - ⟨rfl, rfl⟩
  refine aft_v (pc2 := 5) ?_ rfl
  refine wa_i2d (pc := 5) (y := mX1_meanLevel) dX1_meanLevel_5 ?_
  refine wa_ldc2d (pc := 6) (y := mX1_meanLevel) dX1_meanLevel_6 q1170 ?_
  refine wa_ddiv (pc := 9) (y := mX1_meanLevel) dX1_meanLevel_9 (mean_nn _) ?_
  exact wa_dreturn (pc := 10) (y := mX1_meanLevel) dX1_meanLevel_10 rfl ⟨rfl, rfl⟩
theorem ka_29 (hd : 3 ≤ d) (S : ShowR G h1 F1 O s A f g) (hit : Is h1 it 16 5) (hmc : F1 A.im 3 = .int mc) (hi : i < A.ns.length) : ∀ (suf pre : List Nat) (p q : Nat) (F2 : Nat → Nat → Value), A.ns = pre ++ p :: suf → pre.length ≤ i → Fr (· = it) h1 F1 h1 F2 → ItR h1 F2 it 16 A.im suf.head? (some p) mc → KeyAt h1 F2 q (kF F1 p) →
    WA G d mX1_keyAt 29 [.ref x, .int (Int32.ofNat i), .ref it, .ref q, .int (Int32.ofNat pre.length)] [] (sF h1 F2) (fun r h' => ∃ q p2, A.ns[i]? = some p2 ∧ r = .inl (some (.ref q)) ∧ ∃ F3, h' = sF h1 F3 ∧ Fr (· = it) h1 F1 h1 F3 ∧ KeyAt h1 F3 q (kF F1 p2)) := by
  have hni := S.ni2
  intro suf
  induction suf with
  | nil =>
    intro pre p q F2 hns hle fr I K
    have hlen : A.ns.length = pre.length + 1 := by rw [hns]; simp
    have e : pre.length = i := by omega
    refine wa_iload (pc := 29) (y := mX1_keyAt) dX1_keyAt_29 rfl ?_
    refine wa_iload_n (pc := 31) (y := mX1_keyAt) dX1_keyAt_31 rfl ?_
    refine wa_icmp_ge (pc := 32) 51 dX1_keyAt_32 rfl (fun hb32 => ?_) (fun hb32 => absurd ((iN_le (by omega) (by omega)).mpr (by omega)) hb32)
    refine wa_aloadV_n (pc := 51) (y := mX1_keyAt) dX1_keyAt_51 rfl (by first | exact rf_s _ | exact rf_n | exact rf_q _) ?_
    refine wa_areturnV (pc := 52) (y := mX1_keyAt) (.object "CueStack$Key") dX1_keyAt_52 rfl (Or.inl ⟨_, rfl⟩) (by first | exact rf_s _ | exact rf_n | exact rf_q _) ⟨q, p, by rw [hns, ← e, List.getElem?_append_right (Nat.le_refl _), Nat.sub_self]; rfl, rfl, F2, rfl, fr, K⟩
  | cons p2 suf ih =>
    intro pre p q F2 hns hle fr I K
    have hlen : A.ns.length = pre.length + 1 + 1 + suf.length := by rw [hns]; simp; omega
    by_cases e : pre.length = i
    · refine wa_iload (pc := 29) (y := mX1_keyAt) dX1_keyAt_29 rfl ?_
      refine wa_iload_n (pc := 31) (y := mX1_keyAt) dX1_keyAt_31 rfl ?_
      refine wa_icmp_ge (pc := 32) 51 dX1_keyAt_32 rfl (fun hb32 => ?_) (fun hb32 => absurd ((iN_le (by omega) (by omega)).mpr (by omega)) hb32)
      refine wa_aloadV_n (pc := 51) (y := mX1_keyAt) dX1_keyAt_51 rfl (by first | exact rf_s _ | exact rf_n | exact rf_q _) ?_
      refine wa_areturnV (pc := 52) (y := mX1_keyAt) (.object "CueStack$Key") dX1_keyAt_52 rfl (Or.inl ⟨_, rfl⟩) (by first | exact rf_s _ | exact rf_n | exact rf_q _) ⟨q, p, by rw [hns, ← e, List.getElem?_append_right (Nat.le_refl _), Nat.sub_self]; rfl, rfl, F2, rfl, fr, K⟩
    · obtain ⟨M2, es2, tk2, fp2, m2⟩ := S.im.itf hit (Or.inl rfl) fr
      have hns2 : A.ns = (pre ++ [p]) ++ p2 :: suf := by rw [hns, List.append_assoc]; rfl
      have hlen2 : (pre ++ [p]).length = pre.length + 1 := by simp
      have hpi : A.ns[pre.length + 1]? = some p2 := by rw [hns2, List.getElem?_append_right (by omega), hlen2, Nat.sub_self]; rfl
      have ek : kF F2 p2 = kF F1 p2 := by
        have h9 : (kF F2 p2, vF F2 p2) = (kF F1 p2, vF F1 p2) := by
          have a1 : (es F2 A.ns)[pre.length + 1]? = some (kF F2 p2, vF F2 p2) := es_get.mpr ⟨p2, hpi, rfl⟩
          have a2 : (es F1 A.ns)[pre.length + 1]? = some (kF F1 p2, vF F1 p2) := es_get.mpr ⟨p2, hpi, rfl⟩
          rw [es2, a2] at a1
          exact (Option.some.inj a1).symm
        exact congrArg Prod.fst h9
      rw [hns2] at M2
      refine wa_iload (pc := 29) (y := mX1_keyAt) dX1_keyAt_29 rfl ?_
      refine wa_iload_n (pc := 31) (y := mX1_keyAt) dX1_keyAt_31 rfl ?_
      refine wa_icmp_ge (pc := 32) 51 dX1_keyAt_32 rfl (fun hb32 => absurd ((iN_le (by omega) (by omega)).mp hb32) (by omega)) (fun hb32 => ?_)
      refine wa_aloadV_n (pc := 35) (y := mX1_keyAt) dX1_keyAt_35 rfl (by first | exact rf_s _ | exact rf_n | exact rf_q _) ?_
      refine wa_callF (k := 16) (pc := 36) (s_J31_next (d := d - 1) (by omega) I M2 (by rw [m2]; exact hmc)) dX1_keyAt_36 okJ31_next rfl q2203 ⟨q1483, q1482, q1534, q1532, q1474⟩ (by decide) q1531 q1533 (sF_at (by assumption)) rfl rfl rfl rfl (Nat.le_of_ble_eq_true rfl) (Nat.le_of_ble_eq_true rfl) (by omega) ?_
      rintro _ _ - - ⟨q2, hq2, K2, rfl, rfl⟩
      refine aft_v (pc2 := 41) ?_ rfl
      have frI : Fr (· = it) h1 F2 h1 (itF F2 it p2 suf) := itF_fr
      have I3 : ItR h1 (itF F2 it p2 suf) it 16 A.im suf.head? (some p2) mc := I.step
      have K3 := K2.1
      have hqi : q2 ≠ it := K2.1.ne hit (by decide)
      have KN : KeyAt h1 (itF F2 it p2 suf) q2 (kF F1 p2) := by rw [← ek]; exact K2.fr frI hqi
      have fr3 := fr.trans frI (fun b hb e => e)
      generalize itF F2 it p2 suf = F5 at *
      refine wa_castS (pc := 41) (y := mX1_keyAt) (k := 4) dX1_keyAt_41 (sF_at (by assumption)) rfl q2204 ?_
      refine wa_astoreV_n (pc := 44) (y := mX1_keyAt) dX1_keyAt_44 (Nat.le_of_ble_eq_true rfl) (by first | rfl | (simp [okst, rf_cat] <;> assumption)) (by first | exact rf_s _ | exact rf_n | exact rf_q _) ?_
      change WA _ _ _ _ (List.set _ 3 _) _ _ _
      simp only [List.set_cons_zero, List.set_cons_succ]
      refine wa_iincN (pc := 45) (y := mX1_keyAt) dX1_keyAt_45 rfl (Nat.le_of_ble_eq_true rfl) (by first | rfl | (simp [okst, rf_cat] <;> assumption)) ?_
      simp only [List.set_cons_zero, List.set_cons_succ]
      refine wa_goto (pc := 48) (y := mX1_keyAt) 29 dX1_keyAt_48 rfl ?_
      have := ih (pre ++ [p]) p2 q2 F5 hns2 (by omega) fr3 I3 KN; rw [hlen2] at this; exact this
theorem s_X1_keyAt (hd : 7 ≤ d) (R : CompR G h F own x C f σ) (hi : i < u (f 1)) : MA G d mX1_keyAt [.ref x, .int (Int32.ofNat i)] (sF h F) (KatQ G h F own x i C f σ) := by
  have i1 := R.is
  have e0 := R.f0
  have e2 := R.f2
  have k1 := R.sh.is
  have p1 := R.pa.1
  obtain ⟨gf, A, h60, S⟩ := id R.sh
  have h12 := gf.1.1
  have x0 := S.f0
  have x2 := S.f2
  have x3 := S.f3
  have x7 := S.f7
  have xh := S.hm
  have xc := S.cl.1
  have xl := S.fl.1
  have ch := Ch.refl (F := F) R.ob
  have xm := S.im.1
  have x1 := S.f1
  change WA G d mX1_keyAt 0 [.ref x, .int (Int32.ofNat i), .retAddr 0, .retAddr 0, .retAddr 0] [] _ _
  have hni := S.ni
  have hi2 : i < A.ns.length := by omega
  refine wa_aloadV_n (pc := 0) (y := mX1_keyAt) dX1_keyAt_0 rfl (by first | exact rf_s _ | exact rf_n | exact rf_q _) ?_
  refine wf_get (k := 0) (l := 9) 0 dX1_keyAt_1 (by assumption) rfl q1111 (Or.inl rfl) (Nat.le_of_ble_eq_true rfl) (Nat.le_of_ble_eq_true rfl) (by (repeat (first | exact updF_self _ _ _ _ | (apply updF_i; · decide) | (apply updF_a; · first | assumption | (apply Ne.symm; assumption) | omega) | (apply newF_a; · first | assumption | (apply Ne.symm; assumption) | omega) | exact newL_self (by rfl) | exact newF_self (by rfl) | (apply cpyF_a; · first | assumption | (apply Ne.symm; assumption) | omega))) <;> first | assumption | rfl) ?_
  refine wf_getN (k := 1) (l := 8) 1 dX1_keyAt_4 (by assumption) rfl q358 (Or.inl rfl) (Nat.le_of_ble_eq_true rfl) (Nat.le_of_ble_eq_true rfl) (by (repeat (first | exact updF_self _ _ _ _ | (apply updF_i; · decide) | (apply updF_a; · first | assumption | (apply Ne.symm; assumption) | omega) | (apply newF_a; · first | assumption | (apply Ne.symm; assumption) | omega) | exact newL_self (by rfl) | exact newF_self (by rfl) | (apply cpyF_a; · first | assumption | (apply Ne.symm; assumption) | omega))) <;> first | assumption | rfl) ?_
  refine wa_callV (pc := 7) (s_J5_keySet (d := d - 1) (by omega) S.im S.tk) dX1_keyAt_7 okJ5_keySet q2199 q1846 q1847 (sF_at (by assumption)) rfl rfl rfl (Nat.le_of_ble_eq_true rfl) (Nat.le_of_ble_eq_true rfl) (by omega) ?_
  rintro r h' - - Q
  obtain ⟨h1, F1, v1, rfl, rfl, fr1, cst1, S1, iv, v10, v11⟩ := S.vw (m := 0) Q
  refine aft_v (pc2 := 10) ?_ rfl
  obtain ⟨mc, hmc⟩ := S1.im.2.2.1
  refine wa_callF (k := 15) (pc := 10) (s_J36_iterator (d := d - 1) (by omega) iv v10 v11 S1.im hmc) dX1_keyAt_10 okJ36_iterator rfl q2201 ⟨q1408, q1407, q1444, q1442, q1440⟩ (by decide) q1441 q1443 (sF_at (by assumption)) rfl rfl rfl rfl (Nat.le_of_ble_eq_true rfl) (Nat.le_of_ble_eq_true rfl) (by omega) ?_
  rintro _ _ - - ⟨F2, rfl, rfl, I2, hF2⟩
  refine aft_v (pc2 := 15) ?_ rfl
  have fr2 : Fr NoP h1 F1 (hNew h1 16 5) F2 := ⟨Ext.new, fun b hb _ => hF2 b hb⟩
  have S2 := S1.rd fr2
  have hmc2 := (fr2.at S1.im.1.lt (fun q => q) 3).trans hmc
  obtain ⟨p, suf, hns⟩ : ∃ p suf, A.ns = p :: suf := by cases hA : A.ns with | nil => rw [hA] at hi2; simp at hi2 | cons a l => exact ⟨a, l, rfl⟩
  have M2 := S2.im; rw [hns] at M2
  have I2b : ItR (hNew h1 16 5) F2 h1.1 16 A.im (some p) none mc := by have := I2; rw [hns] at this; exact this
  have it0 := I2.1
  refine wa_astoreV_n (pc := 15) (y := mX1_keyAt) dX1_keyAt_15 (Nat.le_of_ble_eq_true rfl) (by first | rfl | (simp [okst, rf_cat] <;> assumption)) (by first | exact rf_s _ | exact rf_n | exact rf_q _) ?_
  change WA _ _ _ _ (List.set _ 2 _) _ _ _
  simp only [List.set_cons_zero, List.set_cons_succ]
  refine wa_aloadV_n (pc := 16) (y := mX1_keyAt) dX1_keyAt_16 rfl (by first | exact rf_s _ | exact rf_n | exact rf_q _) ?_
  refine wa_callF (k := 16) (pc := 17) (s_J31_next (d := d - 1) (a := []) (by omega) I2b M2 hmc2) dX1_keyAt_17 okJ31_next rfl q2203 ⟨q1483, q1482, q1534, q1532, q1474⟩ (by decide) q1531 q1533 (sF_at (by assumption)) rfl rfl rfl rfl (Nat.le_of_ble_eq_true rfl) (Nat.le_of_ble_eq_true rfl) (by omega) ?_
  rintro _ _ - - ⟨q, hq, K, rfl, rfl⟩
  refine aft_v (pc2 := 22) ?_ rfl
  have frI : Fr (· = h1.1) (hNew h1 16 5) F2 (hNew h1 16 5) (itF F2 h1.1 p suf) := itF_fr
  have I3 : ItR (hNew h1 16 5) (itF F2 h1.1 p suf) h1.1 16 A.im suf.head? (some p) mc := I2b.step
  have K3 := K.1
  have KN := K.fr frI (K.1.ne it0 (by decide))
  generalize itF F2 h1.1 p suf = F5 at *
  refine wa_castS (pc := 22) (y := mX1_keyAt) (k := 4) dX1_keyAt_22 (sF_at (by assumption)) rfl q2204 ?_
  refine wa_astoreV_n (pc := 25) (y := mX1_keyAt) dX1_keyAt_25 (Nat.le_of_ble_eq_true rfl) (by first | rfl | (simp [okst, rf_cat] <;> assumption)) (by first | exact rf_s _ | exact rf_n | exact rf_q _) ?_
  change WA _ _ _ _ (List.set _ 3 _) _ _ _
  simp only [List.set_cons_zero, List.set_cons_succ]
  refine wa_iconst (pc := 26) (y := mX1_keyAt) (Int32.ofNat 0) dX1_keyAt_26 rfl ?_
  refine wa_istore (pc := 27) (y := mX1_keyAt) dX1_keyAt_27 (Nat.le_of_ble_eq_true rfl) (by first | rfl | (simp [okst, rf_cat] <;> assumption)) ?_
  simp only [List.set_cons_zero, List.set_cons_succ]
  refine WA.mono (ka_29 (s := C.s) (f := f) (by omega) S2 it0 hmc2 hi2 suf [] p q F5 hns (Nat.zero_le _) frI I3 KN) ?_
  rintro r h' - - ⟨q2, p2, hp2, rfl, F3, rfl, fr3, K9⟩
  have frA : Fr (OP (fun b => own b = some C.s) h) h F (hNew h1 16 5) F3 := (fr1.trans fr2 (fun _ _ q => q.elim)).trans fr3 (fun b hb e => absurd e (by have := fr1.1.1; omega))
  have cstA : Cst 10 h (hNew h1 16 5) := ⟨by have := cst1.1; show h1.1 + 1 ≤ _; omega, by have := cst1.2; show h1.2.1 + 5 ≤ _; omega⟩
  have t := OwT.ext (h2 := hNew h1 16 5) R.ob frA.1.1 C.s
  have R9 := R.onS frA t (ShowAt.new (S2.itG it0 (Or.inl rfl) fr3) R.ob frA.1.1 gf (fun _ _ => rfl))
  obtain ⟨e1, e2, -⟩ := S2.ins i p2 hp2
  exact ⟨_, F3, _, q2, _, rfl, rfl, (Ch.ofS frA cstA t).mono (by omega), R9, K9, e1, e2⟩
theorem re_18 (hd : 3 ≤ d) (S : ShowR G h1 F1 O s A f g) (hit : Is h1 it 18 5) (hmc : F1 A.im 3 = .int mc) : ∀ (suf pre : List Nat) (F2 : Nat → Nat → Value) (cur : Option Nat) (v3 : Value), A.ns = pre ++ suf → v3.category = 1 → Fr (· = it) h1 F1 h1 F2 → ItR h1 F2 it 18 A.im suf.head? cur mc →
    WA G d mX1_releases 18 [.ref x, .int (smN (relG f) pre.length), .ref it, v3] [] (sF h1 F2) (fun r h' => r = .inl (some (.int (smN (relG f) (u (f 1))))) ∧ ∃ F3, h' = sF h1 F3 ∧ Fr (· = it) h1 F1 h1 F3) := by
  intro suf
  induction suf with
  | nil =>
    intro pre F2 cur v3 hns h4 fr I
    have hni := S.ni
    rw [hns, List.append_nil] at hni
    refine wa_aloadV_n (pc := 18) (y := mX1_releases) dX1_releases_18 rfl (by first | exact rf_s _ | exact rf_n | exact rf_q _) ?_
    refine wa_callF (k := 18) (pc := 19) (s_J29_hasNext_18 (d := d - 1) I) dX1_releases_19 okJ29_hasNext rfl q2471 ⟨q1461, q1460, q1472, q1479, q1477⟩ (by decide) q1478 q1471 (sF_at (by assumption)) rfl rfl rfl rfl (Nat.le_of_ble_eq_true rfl) (Nat.le_of_ble_eq_true rfl) (by omega) ?_
    rintro _ _ - - ⟨rfl, rfl⟩
    refine aft_v (pc2 := 24) ?_ rfl
    refine wa_if_eq (pc := 24) 55 dX1_releases_24 rfl (fun hb24 => ?_) (fun hb24 => absurd rfl hb24)
    refine wa_iload_n (pc := 55) (y := mX1_releases) dX1_releases_55 rfl ?_
    refine wa_ireturn (pc := 56) (y := mX1_releases) .int dX1_releases_56 rfl rfl ⟨by rw [hni], F2, rfl, fr⟩
  | cons p suf ih =>
    intro pre F2 cur v3 hns h4 fr I
    obtain ⟨M2, es2, tk2, fp2, m2⟩ := S.im.itf hit (Or.inr (Or.inl rfl)) fr
    have hpi : A.ns[pre.length]? = some p := by rw [hns, List.getElem?_append_right (Nat.le_refl _), Nat.sub_self]; rfl
    obtain ⟨-, -, T⟩ := S.ins _ p hpi
    have ek : vF F2 p = vF F1 p := by
      have h9 : (kF F2 p, vF F2 p) = (kF F1 p, vF F1 p) := by
        have a1 : (es F2 A.ns)[pre.length]? = some (kF F2 p, vF F2 p) := es_get.mpr ⟨p, hpi, rfl⟩
        have a2 : (es F1 A.ns)[pre.length]? = some (kF F1 p, vF F1 p) := es_get.mpr ⟨p, hpi, rfl⟩
        rw [es2, a2] at a1
        exact (Option.some.inj a1).symm
      exact congrArg Prod.snd h9
    rw [hns] at M2
    have hlen2 : (pre ++ [p]).length = pre.length + 1 := by simp
    have es : ∀ k, smN (relG f) (k + 1) = smN (relG f) k + relG f k := fun _ => rfl
    rcases T with ⟨-, -, ⟨e1, iv⟩ | ⟨e1, iv, -⟩⟩
    · have e9 : smN (relG f) (pre ++ [p]).length = smN (relG f) pre.length + Int32.ofNat 1 := by rw [hlen2, es]; congr 1; exact if_pos e1
      refine wa_aloadV_n (pc := 18) (y := mX1_releases) dX1_releases_18 rfl (by first | exact rf_s _ | exact rf_n | exact rf_q _) ?_
      refine wa_callF (k := 18) (pc := 19) (s_J29_hasNext_18 (d := d - 1) I) dX1_releases_19 okJ29_hasNext rfl q2471 ⟨q1461, q1460, q1472, q1479, q1477⟩ (by decide) q1478 q1471 (sF_at (by assumption)) rfl rfl rfl rfl (Nat.le_of_ble_eq_true rfl) (Nat.le_of_ble_eq_true rfl) (by omega) ?_
      rintro _ _ - - ⟨rfl, rfl⟩
      refine aft_v (pc2 := 24) ?_ rfl
      refine wa_if_eq (pc := 24) 55 dX1_releases_24 rfl (fun hb24 => absurd hb24 (by simp [bI])) (fun hb24 => ?_)
      refine wa_aloadV_n (pc := 27) (y := mX1_releases) dX1_releases_27 rfl (by first | exact rf_s _ | exact rf_n | exact rf_q _) ?_
      refine wa_callF (k := 18) (pc := 28) (s_J41_next (d := d - 1) (by omega) I M2 (by rw [m2]; exact hmc)) dX1_releases_28 okJ41_next rfl q2203 ⟨q1483, q1482, q1549, q1547, q1477⟩ (by decide) q1546 q1548 (sF_at (by assumption)) rfl rfl rfl rfl (Nat.le_of_ble_eq_true rfl) (Nat.le_of_ble_eq_true rfl) (by omega) ?_
      rintro _ _ - - ⟨rfl, rfl⟩
      refine aft_v (pc2 := 33) ?_ rfl
      rw [ek]
      have frI : Fr (· = it) h1 F2 h1 (itF F2 it p suf) := itF_fr
      have I3 : ItR h1 (itF F2 it p suf) it 18 A.im suf.head? (some p) mc := I.step
      have fr3 := fr.trans frI (fun b hb e => e)
      generalize itF F2 it p suf = F5 at *
      refine wa_castY (pc := 33) (y := mX1_releases) (k := 8) dX1_releases_33 (sF_at (by assumption)) rfl q2206 q3109 ?_
      refine wa_astoreV_n (pc := 36) (y := mX1_releases) dX1_releases_36 (Nat.le_of_ble_eq_true rfl) (by first | rfl | (simp [okst, rf_cat] <;> assumption)) (by first | exact rf_s _ | exact rf_n | exact rf_q _) ?_
      change WA _ _ _ _ (List.set _ 3 _) _ _ _
      simp only [List.set_cons_zero, List.set_cons_succ]
      refine wa_iload_n (pc := 37) (y := mX1_releases) dX1_releases_37 rfl ?_
      refine wa_aloadV_n (pc := 38) (y := mX1_releases) dX1_releases_38 rfl (by first | exact rf_s _ | exact rf_n | exact rf_q _) ?_
      refine wa_instS (pc := 39) (y := mX1_releases) (k := 8) dX1_releases_39 (sF_at (by assumption)) rfl q2172 ?_
      refine wa_if_eq (pc := 42) 49 dX1_releases_42 rfl (fun hb42 => absurd hb42 (by decide)) (fun hb42 => ?_)
      refine wa_iconst (pc := 45) (y := mX1_releases) (Int32.ofNat 1) dX1_releases_45 rfl ?_
      refine wa_goto (pc := 46) (y := mX1_releases) 50 dX1_releases_46 rfl ?_
      first | with_reducible refine wa_iaddN (pc := 50) (y := mX1_releases) dX1_releases_50 ?_ | refine wa_iadd (pc := 50) (y := mX1_releases) dX1_releases_50 ?_
      refine wa_istore_n (pc := 51) (y := mX1_releases) dX1_releases_51 (Nat.le_of_ble_eq_true rfl) (by first | rfl | (simp [okst, rf_cat] <;> assumption)) ?_
      change WA _ _ _ _ (List.set _ 1 _) _ _ _
      simp only [List.set_cons_zero, List.set_cons_succ]
      refine wa_goto (pc := 52) (y := mX1_releases) 18 dX1_releases_52 rfl ?_
      have := ih (pre ++ [p]) F5 (some p) (.ref (vF F1 p)) (by rw [hns, List.append_assoc]; rfl) rfl fr3 I3; rw [e9] at this; exact this
    · have e9 : smN (relG f) (pre ++ [p]).length = smN (relG f) pre.length + Int32.ofNat 0 := by rw [hlen2, es]; congr 1; exact if_neg e1
      refine wa_aloadV_n (pc := 18) (y := mX1_releases) dX1_releases_18 rfl (by first | exact rf_s _ | exact rf_n | exact rf_q _) ?_
      refine wa_callF (k := 18) (pc := 19) (s_J29_hasNext_18 (d := d - 1) I) dX1_releases_19 okJ29_hasNext rfl q2471 ⟨q1461, q1460, q1472, q1479, q1477⟩ (by decide) q1478 q1471 (sF_at (by assumption)) rfl rfl rfl rfl (Nat.le_of_ble_eq_true rfl) (Nat.le_of_ble_eq_true rfl) (by omega) ?_
      rintro _ _ - - ⟨rfl, rfl⟩
      refine aft_v (pc2 := 24) ?_ rfl
      refine wa_if_eq (pc := 24) 55 dX1_releases_24 rfl (fun hb24 => absurd hb24 (by simp [bI])) (fun hb24 => ?_)
      refine wa_aloadV_n (pc := 27) (y := mX1_releases) dX1_releases_27 rfl (by first | exact rf_s _ | exact rf_n | exact rf_q _) ?_
      refine wa_callF (k := 18) (pc := 28) (s_J41_next (d := d - 1) (by omega) I M2 (by rw [m2]; exact hmc)) dX1_releases_28 okJ41_next rfl q2203 ⟨q1483, q1482, q1549, q1547, q1477⟩ (by decide) q1546 q1548 (sF_at (by assumption)) rfl rfl rfl rfl (Nat.le_of_ble_eq_true rfl) (Nat.le_of_ble_eq_true rfl) (by omega) ?_
      rintro _ _ - - ⟨rfl, rfl⟩
      refine aft_v (pc2 := 33) ?_ rfl
      rw [ek]
      have frI : Fr (· = it) h1 F2 h1 (itF F2 it p suf) := itF_fr
      have I3 : ItR h1 (itF F2 it p suf) it 18 A.im suf.head? (some p) mc := I.step
      have fr3 := fr.trans frI (fun b hb e => e)
      generalize itF F2 it p suf = F5 at *
      refine wa_castY (pc := 33) (y := mX1_releases) (k := 7) dX1_releases_33 (sF_at (by assumption)) rfl q2206 q3108 ?_
      refine wa_astoreV_n (pc := 36) (y := mX1_releases) dX1_releases_36 (Nat.le_of_ble_eq_true rfl) (by first | rfl | (simp [okst, rf_cat] <;> assumption)) (by first | exact rf_s _ | exact rf_n | exact rf_q _) ?_
      change WA _ _ _ _ (List.set _ 3 _) _ _ _
      simp only [List.set_cons_zero, List.set_cons_succ]
      refine wa_iload_n (pc := 37) (y := mX1_releases) dX1_releases_37 rfl ?_
      refine wa_aloadV_n (pc := 38) (y := mX1_releases) dX1_releases_38 rfl (by first | exact rf_s _ | exact rf_n | exact rf_q _) ?_
      refine wa_instNo (pc := 39) (y := mX1_releases) (k := 7) dX1_releases_39 (sF_at (by assumption)) rfl q2172 (by decide +kernel) ?_
      refine wa_if_eq (pc := 42) 49 dX1_releases_42 rfl (fun hb42 => ?_) (fun hb42 => absurd rfl hb42)
      refine wa_iconst (pc := 49) (y := mX1_releases) (Int32.ofNat 0) dX1_releases_49 rfl ?_
      first | with_reducible refine wa_iaddN (pc := 50) (y := mX1_releases) dX1_releases_50 ?_ | refine wa_iadd (pc := 50) (y := mX1_releases) dX1_releases_50 ?_
      refine wa_istore_n (pc := 51) (y := mX1_releases) dX1_releases_51 (Nat.le_of_ble_eq_true rfl) (by first | rfl | (simp [okst, rf_cat] <;> assumption)) ?_
      change WA _ _ _ _ (List.set _ 1 _) _ _ _
      simp only [List.set_cons_zero, List.set_cons_succ]
      refine wa_goto (pc := 52) (y := mX1_releases) 18 dX1_releases_52 rfl ?_
      have := ih (pre ++ [p]) F5 (some p) (.ref (vF F1 p)) (by rw [hns, List.append_assoc]; rfl) rfl fr3 I3; rw [e9] at this; exact this
def RelQ (G : GG) (h : AH) (F : Nat → Nat → Value) (own : Nat → Option Nat) (x : Nat) (C : CA) (f : Nat → Int32) (σ : MS) (v : Int32) (r : RR) (h' : AH) : Prop :=
  ∃ (h2 : AH) (F2 : Nat → Nat → Value) (own2 : Nat → Option Nat), r = .inl (some (.int v)) ∧ h' = sF h2 F2 ∧ Ch 20 h F own h2 F2 own2 ∧ CompR G h2 F2 own2 x C f σ
theorem s_X1_releases (hd : 7 ≤ d) (R : CompR G h F own x C f σ) : MA G d mX1_releases [.ref x] (sF h F) (RelQ G h F own x C f σ (smN (relG f) (u (f 1)))) := by
  have i1 := R.is
  have e0 := R.f0
  have e2 := R.f2
  have k1 := R.sh.is
  have p1 := R.pa.1
  obtain ⟨gf, A, h60, S⟩ := id R.sh
  have h12 := gf.1.1
  have x0 := S.f0
  have x2 := S.f2
  have x3 := S.f3
  have x7 := S.f7
  have xh := S.hm
  have xc := S.cl.1
  have xl := S.fl.1
  have ch := Ch.refl (F := F) R.ob
  have xm := S.im.1
  have x1 := S.f1
  change WA G d mX1_releases 0 [.ref x, .retAddr 0, .retAddr 0, .retAddr 0] [] _ _
  refine wa_iconst (pc := 0) (y := mX1_releases) (Int32.ofNat 0) dX1_releases_0 rfl ?_
  refine wa_istore_n (pc := 1) (y := mX1_releases) dX1_releases_1 (Nat.le_of_ble_eq_true rfl) (by first | rfl | (simp [okst, rf_cat] <;> assumption)) ?_
  change WA _ _ _ _ (List.set _ 1 _) _ _ _
  simp only [List.set_cons_zero, List.set_cons_succ]
  refine wa_aloadV_n (pc := 2) (y := mX1_releases) dX1_releases_2 rfl (by first | exact rf_s _ | exact rf_n | exact rf_q _) ?_
  refine wf_get (k := 0) (l := 9) 0 dX1_releases_3 (by assumption) rfl q1111 (Or.inl rfl) (Nat.le_of_ble_eq_true rfl) (Nat.le_of_ble_eq_true rfl) (by (repeat (first | exact updF_self _ _ _ _ | (apply updF_i; · decide) | (apply updF_a; · first | assumption | (apply Ne.symm; assumption) | omega) | (apply newF_a; · first | assumption | (apply Ne.symm; assumption) | omega) | exact newL_self (by rfl) | exact newF_self (by rfl) | (apply cpyF_a; · first | assumption | (apply Ne.symm; assumption) | omega))) <;> first | assumption | rfl) ?_
  refine wf_getN (k := 1) (l := 8) 1 dX1_releases_6 (by assumption) rfl q358 (Or.inl rfl) (Nat.le_of_ble_eq_true rfl) (Nat.le_of_ble_eq_true rfl) (by (repeat (first | exact updF_self _ _ _ _ | (apply updF_i; · decide) | (apply updF_a; · first | assumption | (apply Ne.symm; assumption) | omega) | (apply newF_a; · first | assumption | (apply Ne.symm; assumption) | omega) | exact newL_self (by rfl) | exact newF_self (by rfl) | (apply cpyF_a; · first | assumption | (apply Ne.symm; assumption) | omega))) <;> first | assumption | rfl) ?_
  refine wa_callV (pc := 9) (s_J5_values (d := d - 1) (by omega) S.im S.tk) dX1_releases_9 okJ5_values q2397 q2398 q2399 (sF_at (by assumption)) rfl rfl rfl (Nat.le_of_ble_eq_true rfl) (Nat.le_of_ble_eq_true rfl) (by omega) ?_
  rintro r h' - - Q
  obtain ⟨h1, F1, v1, rfl, rfl, fr1, cst1, S1, iv, v10, v11⟩ := S.vw (m := 0) Q
  refine aft_v (pc2 := 12) ?_ rfl
  obtain ⟨mc, hmc⟩ := S1.im.2.2.1
  refine wa_callF (k := 17) (pc := 12) (s_J39_iterator (d := d - 1) (by omega) iv v10 v11 S1.im hmc) dX1_releases_12 okJ39_iterator rfl q2420 ⟨q2422, q2421, q2456, q2454, q2452⟩ (by decide) q2453 q2455 (sF_at (by assumption)) rfl rfl rfl rfl (Nat.le_of_ble_eq_true rfl) (Nat.le_of_ble_eq_true rfl) (by omega) ?_
  rintro _ _ - - ⟨F2, rfl, rfl, I2, hF2⟩
  refine aft_v (pc2 := 17) ?_ rfl
  have fr2 : Fr NoP h1 F1 (hNew h1 18 5) F2 := ⟨Ext.new, fun b hb _ => hF2 b hb⟩
  have S2 := S1.rd fr2
  refine wa_astoreV_n (pc := 17) (y := mX1_releases) dX1_releases_17 (Nat.le_of_ble_eq_true rfl) (by first | rfl | (simp [okst, rf_cat] <;> assumption)) (by first | exact rf_s _ | exact rf_n | exact rf_q _) ?_
  change WA _ _ _ _ (List.set _ 2 _) _ _ _
  simp only [List.set_cons_zero, List.set_cons_succ]
  refine WA.mono (re_18 (s := C.s) (by omega) S2 I2.1 ((fr2.at S1.im.1.lt (fun q => q) 3).trans hmc) A.ns [] F2 none _ rfl rfl Fr.refl I2) ?_
  rintro r h' - - ⟨rfl, F3, rfl, fr3⟩
  have frA : Fr (OP (fun b => own b = some C.s) h) h F (hNew h1 18 5) F3 := (fr1.trans fr2 (fun _ _ q => q.elim)).trans fr3 (fun b hb e => absurd e (by have := fr1.1.1; omega))
  have cstA : Cst 10 h (hNew h1 18 5) := ⟨by have := cst1.1; show h1.1 + 1 ≤ _; omega, by have := cst1.2; show h1.2.1 + 5 ≤ _; omega⟩
  have t := OwT.ext (h2 := hNew h1 18 5) R.ob frA.1.1 C.s
  have R9 := R.onS frA t (ShowAt.new (S2.itG I2.1 (Or.inr (Or.inl rfl)) fr3) R.ob frA.1.1 gf (fun _ _ => rfl))
  exact ⟨_, F3, _, rfl, rfl, (Ch.ofS frA cstA t).mono (by omega), R9⟩
end OPS8
