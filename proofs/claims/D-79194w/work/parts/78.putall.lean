/-! ===== putAll into a fresh map ===== -/
/-- what putAll does: m is the fresh map, m2 the other one -/
def PtaQ (m m2 : Nat) (nsS : List Nat) (k2 : Nat) (h : AH) (F : Nat → Nat → Value) (r : RR) (h' : AH) : Prop :=
  ∃ (h2 : AH) (F2 : Nat → Nat → Value) (nsD : List Nat) (kD : Nat), r = .inl none ∧ h' = sF h2 F2 ∧ MapR h2 F2 m nsD ∧ TK h2 F2 m kD ∧ es F2 nsD = es F nsS ∧ MapR h2 F2 m2 nsS ∧ TK h2 F2 m2 k2 ∧ es F2 nsS = es F nsS ∧
    Fr (fun b => MFp F m [] b ∨ MFp F m2 nsS b) h F h2 F2 ∧ (h2.1 ≤ h.1 + 2 + 20 * nsS.length + 776 ∧ h2.2.1 ≤ h.2.1 + 8 + 220 * nsS.length + 6720) ∧ (∀ b, MFp F2 m nsD b → MFp F m [] b ∨ h.1 < b) ∧ ∀ b, MFp F2 m2 nsS b → MFp F m2 nsS b ∨ b = h.1
section PUTALL
variable {G : GG} {d n : Nat} {h h1 h2 h3 : AH} {F F1 F2 F3 : Nat → Nat → Value} {m m2 k k2 kD it p q x vv : Nat} {nsS nsD ns pre suf : List Nat} {mc : Int32} {cur : Option Nat} {P : Nat → Prop}
theorem es_app (F : Nat → Nat → Value) (a b : List Nat) : es F (a ++ b) = es F a ++ es F b := List.map_append
theorem es_inj {a b : List Nat} (e : es F2 (a ++ b) = es F a ++ es F b) : es F2 a = es F a ∧ es F2 b = es F b := by
  rw [es_app] at e
  exact List.append_inj e (by simp [es])
theorem MapR.itf (M : MapR h F m ns) (hit : Is h it k 5) (hk : k = 16 ∨ k = 18 ∨ k = 20) (fr : Fr (· = it) h F h F2) : MapR h F2 m ns ∧ es F2 ns = es F ns ∧ (∀ k, TK h F m k → TK h F2 m k) ∧ (∀ b, MFp F2 m ns b ↔ MFp F m ns b) ∧ ∀ j, F2 m j = F m j :=
  M.fr fr (fun b hb e => MFp.no M (e ▸ hit) (by rcases hk with rfl | rfl | rfl <;> decide) hb) (fun q hq e => (e ▸ hit).ne hq (by rcases hk with rfl | rfl | rfl <;> decide) rfl)
/-- a map keeps when the other one changes -/
theorem MapR.oth (M : MapR h F m2 nsS) (fr : Fr P h F h2 F2) (hP : ∀ b, P b → MFp F m ns b ∨ b = it) (Mm : MapR h F m ns) (hdis : ∀ b, MFp F m ns b → ¬ MFp F m2 nsS b) (hit : Is h it 20 5) : MapR h2 F2 m2 nsS ∧ es F2 nsS = es F nsS ∧ (∀ k, TK h F m2 k → TK h2 F2 m2 k) ∧ (∀ b, MFp F2 m2 nsS b ↔ MFp F m2 nsS b) ∧ ∀ j, F2 m2 j = F m2 j :=
  M.fr fr (fun b hb hp => (hP b hp).elim (fun q => hdis b q hb) (fun e => MFp.no M (e ▸ hit) (by decide) hb)) (fun q hq hp => (hP q hp).elim (fun q2 => MFp.no Mm hq (by decide) q2) (fun e => (e ▸ hit).ne hq (by decide) rfl))
theorem pm_110 {v3 : Value} {n0 : Nat} (hd : 12 ≤ d) (hG : StG G) (h3c : v3.category = 1) (hl9 : nsS.length ≤ 90) (hm : Is h m 12 12) (hk8 : True) : ∀ (suf pre : List Nat) (h2 : AH) (F2 : Nat → Nat → Value) (nsD : List Nat) (kD : Nat) (cur : Option Nat) (mc : Int32) (v5 v6 v7 : Value), nsS = pre ++ suf → v5.category = 1 → v6.category = 1 → v7.category = 1 → MapR h2 F2 m nsD → TK h2 F2 m kD → kD ≤ 8 → es F2 nsD = es F2 pre → MapR h2 F2 m2 nsS → TK h2 F2 m2 k2 → es F2 nsS = es F nsS → F2 m2 3 = .int mc → ItR h2 F2 it 20 m2 suf.head? cur mc → n0 ≤ it → it < h2.1 → h.1 = n0 →
    Fr (fun b => MFp F m [] b ∨ MFp F m2 nsS b) h F h2 F2 → (h2.1 ≤ h.1 + 2 + 20 * nsD.length + 97 * kD ∧ h2.2.1 ≤ h.2.1 + 8 + 220 * nsD.length + 840 * kD) → (∀ b, MFp F2 m nsD b → MFp F m [] b ∨ n0 < b) → (∀ b, MFp F2 m2 nsS b → MFp F m2 nsS b ∨ b = n0) → (∀ b, MFp F m [] b → ¬ MFp F m2 nsS b) → (∀ b, MFp F m [] b → b < n0) → (∀ b, MFp F m2 nsS b → b < n0) →
    WA G d mJ4_putMapEntries 110 [.ref m, .ref m2, .int (Int32.ofNat 1), v3, .ref it, v5, v6, v7] [] (sF h2 F2) (PtaQ m m2 nsS k2 h F) := by
  intro suf
  have hdj : ∀ (h2 : AH) (F2 : Nat → Nat → Value) (nsD : List Nat), (∀ b, MFp F2 m nsD b → MFp F m [] b ∨ n0 < b) → (∀ b, MFp F2 m2 nsS b → MFp F m2 nsS b ∨ b = n0) → (∀ b, MFp F m [] b → ¬ MFp F m2 nsS b) → (∀ b, MFp F m [] b → b < n0) → (∀ b, MFp F m2 nsS b → b < n0) → ∀ b, MFp F2 m nsD b → ¬ MFp F2 m2 nsS b := fun h2 F2 nsD a1 a2 a3 a4 a5 b hb hb2 => by
    rcases a1 b hb with e | e <;> rcases a2 b hb2 with e2 | e2
    · exact a3 b e e2
    · have := a4 b e; omega
    · have := a5 b e2; omega
    · omega
  induction suf with
  | nil =>
    intro pre h2 F2 nsD kD cur mc v5 v6 v7 hns h5 h6 h7 M t hk eD M2 t2 e2 h3 I hn1 hn2 hn3 fr cst fD fS dis lD lS
    have hns : nsS = pre := by rw [hns, List.append_nil]
    subst hns
    have hlen : nsD.length = nsS.length := by have := congrArg List.length eD; simpa [es] using this
    have i1 := I.1
    refine wa_aloadV (pc := 110) (y := mJ4_putMapEntries) dJ4_putMapEntries_110 rfl (by first | exact rf_s _ | exact rf_n | exact rf_q _) ?_
    refine wa_callF (k := 20) (pc := 112) (s_J29_hasNext_20 (d := d - 1) I) dJ4_putMapEntries_112 okJ29_hasNext rfl q1459 ⟨q1461, q1460, q1472, q1470, q1468⟩ (by decide) q1469 q1471 (sF_at (by assumption)) rfl rfl rfl rfl (Nat.le_of_ble_eq_true rfl) (Nat.le_of_ble_eq_true rfl) (by omega) ?_
    rintro _ _ - - ⟨rfl, rfl⟩
    refine aft_v (pc2 := 117) ?_ rfl
    refine wa_if_eq (pc := 117) 169 dJ4_putMapEntries_117 rfl (fun hb117 => ?_) (fun hb117 => absurd rfl hb117)
    refine wa_return (pc := 169) (y := mJ4_putMapEntries) dJ4_putMapEntries_169 rfl ⟨h2, F2, nsD, kD, rfl, rfl, M, t, eD.trans e2, M2, t2, e2, fr, by omega, fun b hb => hn3 ▸ fD b hb, fun b hb => hn3 ▸ fS b hb⟩
  | cons p suf ih =>
    intro pre h2 F2 nsD kD cur mc v5 v6 v7 hns h5 h6 h7 M t hk eD M2 t2 e2 h3 I hn1 hn2 hn3 fr cst fD fS dis lD lS
    have hdisj := hdj h2 F2 nsD fD fS dis lD lS
    have i1 := I.1
    have hpm : p ∈ nsS := by rw [hns]; simp
    have hlen : nsD.length = pre.length := by have := congrArg List.length eD; simpa [es] using this
    have hle : pre.length + 1 ≤ nsS.length := by rw [hns]; simp
    have frI : Fr (· = it) h2 F2 h2 (itF F2 it p suf) := itF_fr
    obtain ⟨M25, es25, tk25, fp25, m25⟩ := M2.itf i1 (Or.inr (Or.inr rfl)) frI
    obtain ⟨M5, es5, tk5, fp5, m5⟩ := M.itf i1 (Or.inr (Or.inr rfl)) frI
    have I5 : ItR h2 (itF F2 it p suf) it 20 m2 suf.head? (some p) mc := I.step
    have M2c := M2
    rw [hns] at M2c
    obtain ⟨hNd, ⟨-, q, e5q, K5⟩, e5v⟩ := M25.2.2.2.2.2.2.2.2.1 p hpm
    have fr5 : Fr (fun b => MFp F m [] b ∨ MFp F m2 nsS b) h F h2 (itF F2 it p suf) := fr.trans frI (fun b hb e => absurd e (by omega))
    have eD5 : es (itF F2 it p suf) nsD = es (itF F2 it p suf) pre := by
      rw [es5, eD]
      have e9 := es25
      rw [hns] at e9
      exact ((es_inj (e9.trans (es_app F2 pre (p :: suf)))).1).symm
    have hnew : ∀ v0, (kF (itF F2 it p suf) p, v0) ∉ es (itF F2 it p suf) nsD := fun v0 hm9 => by
      rw [eD5] at hm9
      obtain ⟨z, hz, e9⟩ := List.mem_map.mp hm9
      have hzS : z ∈ nsS := by rw [hns]; simp [hz]
      have hz2 : z = p := M25.2.2.2.2.2.2.2.2.2.1 z p hzS hpm (congrArg Prod.fst e9)
      have hnd := M25.2.2.2.2.2.2.2.1
      rw [hns, List.nodup_append] at hnd
      exact hnd.2.2 z hz p (by simp) hz2
    have m1 := M.1
    have K132 : ∀ v5 v6 v7 : Value, v5.category = 1 → v6.category = 1 → v7.category = 1 → WA G d mJ4_putMapEntries 127 [.ref m, .ref m2, .int (Int32.ofNat 1), v3, .ref it, v5, v6, v7] [.ref p] (sF h2 (itF F2 it p suf)) (PtaQ m m2 nsS k2 h F) := by
      intro v5 v6 v7 h5 h6 h7
      generalize itF F2 it p suf = F5 at *
      rcases hNd with hi | hi
      · have hNd : Nd h2 p := Or.inl hi
        refine wa_castY (pc := 127) (y := mJ4_putMapEntries) (k := 13) dJ4_putMapEntries_127 (sF_at (by assumption)) rfl q1554 q1566 ?_
        refine wa_astoreV (pc := 130) (y := mJ4_putMapEntries) dJ4_putMapEntries_130 (Nat.le_of_ble_eq_true rfl) (by first | rfl | (simp [okst, rf_cat] <;> assumption)) (by first | exact rf_s _ | exact rf_n | exact rf_q _) ?_
        simp only [List.set_cons_zero, List.set_cons_succ]
        refine wa_aloadV (pc := 132) (y := mJ4_putMapEntries) dJ4_putMapEntries_132 rfl (by first | exact rf_s _ | exact rf_n | exact rf_q _) ?_
        refine wa_callF (k := 13) (pc := 134) (s_J24_getKey (d := d - 1) hNd e5q) dJ4_putMapEntries_134 okJ24_getKey rfl q1556 ⟨q1558, q1557, q1562, q1568, q1566⟩ (by decide) q1567 q1544 (sF_at (by assumption)) rfl rfl rfl rfl (Nat.le_of_ble_eq_true rfl) (Nat.le_of_ble_eq_true rfl) (by omega) ?_
        rintro _ _ - - ⟨rfl, rfl⟩
        refine aft_v (pc2 := 139) ?_ rfl
        refine wa_astoreV (pc := 139) (y := mJ4_putMapEntries) dJ4_putMapEntries_139 (Nat.le_of_ble_eq_true rfl) (by first | rfl | (simp [okst, rf_cat] <;> assumption)) (by first | exact rf_s _ | exact rf_n | exact rf_q _) ?_
        simp only [List.set_cons_zero, List.set_cons_succ]
        refine wa_aloadV (pc := 141) (y := mJ4_putMapEntries) dJ4_putMapEntries_141 rfl (by first | exact rf_s _ | exact rf_n | exact rf_q _) ?_
        refine wa_callF (k := 13) (pc := 143) (s_J24_getValue (d := d - 1) hNd e5v) dJ4_putMapEntries_143 okJ24_getValue rfl q1570 ⟨q1572, q1571, q1576, q1581, q1566⟩ (by decide) q1580 q1575 (sF_at (by assumption)) rfl rfl rfl rfl (Nat.le_of_ble_eq_true rfl) (Nat.le_of_ble_eq_true rfl) (by omega) ?_
        rintro _ _ - - ⟨rfl, rfl⟩
        refine aft_v (pc2 := 148) ?_ rfl
        refine wa_astoreV (pc := 148) (y := mJ4_putMapEntries) dJ4_putMapEntries_148 (Nat.le_of_ble_eq_true rfl) (by first | rfl | (simp [okst, rf_cat] <;> assumption)) (by first | exact rf_s _ | exact rf_n | exact rf_q _) ?_
        simp only [List.set_cons_zero, List.set_cons_succ]
        refine wa_aloadV_n (pc := 150) (y := mJ4_putMapEntries) dJ4_putMapEntries_150 rfl (by first | exact rf_s _ | exact rf_n | exact rf_q _) ?_
        refine wa_aloadV (pc := 151) (y := mJ4_putMapEntries) dJ4_putMapEntries_151 rfl (by first | exact rf_s _ | exact rf_n | exact rf_q _) ?_
        refine wa_callS (pc := 153) (s_J4_hash (d := d - 1) (by omega) K5) dJ4_putMapEntries_153 okJ4_hash q455 q456 rfl rfl (Nat.le_of_ble_eq_true rfl) (Nat.le_of_ble_eq_true rfl) (by omega) ?_
        rintro _ _ - - ⟨rfl, rfl⟩
        refine aft_v (pc2 := 156) ?_ rfl
        refine wa_aloadV (pc := 156) (y := mJ4_putMapEntries) dJ4_putMapEntries_156 rfl (by first | exact rf_s _ | exact rf_n | exact rf_q _) ?_
        refine wa_aloadV (pc := 158) (y := mJ4_putMapEntries) dJ4_putMapEntries_158 rfl (by first | exact rf_s _ | exact rf_n | exact rf_q _) ?_
        refine wa_iconst (pc := 160) (y := mJ4_putMapEntries) (Int32.ofNat 0) dJ4_putMapEntries_160 rfl ?_
        refine wa_iload_n (pc := 161) (y := mJ4_putMapEntries) dJ4_putMapEntries_161 rfl ?_
        refine wa_callW (k := 12) (pc := 162) (owner := "java/util/HashMap") (s_J4_putVal (d := d - 1) (by omega) hG M5 (tk5 _ t) (by omega) K5) dJ4_putMapEntries_162 okJ4_putVal rfl q1582 q1584 (hDc_code q1583 q1586) (by decide) q1585 q1583 (sF_at (by assumption)) rfl rfl rfl rfl (Nat.le_of_ble_eq_true rfl) (Nat.le_of_ble_eq_true rfl) (by omega) ?_
        rintro r h' - - ⟨h6, F6, ns6, k6, rfl, M6, t6, st6, hcase⟩
        rcases hcase with ⟨v0, m0, -, -⟩ | ⟨-, rfl, e6⟩
        · exact absurd m0 (hnew v0)
        refine aft_v (pc2 := 165) ?_ rfl
        refine wa_pop (pc := 165) (y := mJ4_putMapEntries) dJ4_putMapEntries_165 (by first | rfl | exact rf_cat _) ?_
        have O6 := MapR.oth (it := it) M25 st6.1 (fun b hb => Or.inl hb) M5 (fun b hb => by rw [fp25]; exact hdisj b ((fp5 b).mp hb)) I.1
        refine wa_goto (pc := 166) (y := mJ4_putMapEntries) 110 dJ4_putMapEntries_166 rfl ?_
        exact ih (pre ++ [p]) h6 F6 ns6 k6 (some p) mc _ _ _ (by rw [hns, List.append_assoc]; rfl) rfl rfl rfl M6 t6 st6.2.1.2 (by rw [e6, eD5, es_app]; have e9 := O6.2.1; rw [hns] at e9; obtain ⟨e10, e11⟩ := es_inj (e9.trans (es_app F5 pre (p :: suf))); rw [e10]; congr 1; have e12 : es F6 (p :: suf) = es F5 (p :: suf) := e11; simp only [es, List.map_cons, List.cons.injEq] at e12 ⊢; exact ⟨e12.1.symm, rfl⟩) O6.1 (O6.2.2.1 _ (tk25 _ t2)) (O6.2.1.trans (es25.trans e2)) (by rw [O6.2.2.2.2, m25]; exact h3) (I5.fr st6.1 (fun hb => MFp.no M5 i1 (by decide) hb)) hn1 (Nat.lt_of_lt_of_le hn2 st6.1.1.1) hn3 (fr5.trans st6.1 (fun b hb hb2 => by rcases fD b ((fp5 b).mp hb2) with e | e; exact Or.inl e; omega)) (by have hl6 : ns6.length = nsD.length + 1 := by { have := congrArg List.length e6; simpa [es] using this }; obtain ⟨-, q1, q2, -⟩ := st6; have hk6 : 97 * k6 = 97 * kD + 97 * (k6 - kD) := by { rw [← Nat.mul_add]; congr 1; omega }; have hk7 : 840 * k6 = 840 * kD + 840 * (k6 - kD) := by { rw [← Nat.mul_add]; congr 1; omega }; omega) (fun b hb => (st6.2.2.2 b hb).elim (fun q => fD b ((fp5 b).mp q)) (fun q => Or.inr (by omega))) (fun b hb => fS b ((fp25 b).mp ((O6.2.2.2.1 b).mp hb))) dis lD lS
      · have hNd : Nd h2 p := Or.inr hi
        refine wa_castY (pc := 127) (y := mJ4_putMapEntries) (k := 14) dJ4_putMapEntries_127 (sF_at (by assumption)) rfl q1554 q1563 ?_
        refine wa_astoreV (pc := 130) (y := mJ4_putMapEntries) dJ4_putMapEntries_130 (Nat.le_of_ble_eq_true rfl) (by first | rfl | (simp [okst, rf_cat] <;> assumption)) (by first | exact rf_s _ | exact rf_n | exact rf_q _) ?_
        simp only [List.set_cons_zero, List.set_cons_succ]
        refine wa_aloadV (pc := 132) (y := mJ4_putMapEntries) dJ4_putMapEntries_132 rfl (by first | exact rf_s _ | exact rf_n | exact rf_q _) ?_
        refine wa_callF (k := 14) (pc := 134) (s_J24_getKey (d := d - 1) hNd e5q) dJ4_putMapEntries_134 okJ24_getKey rfl q1556 ⟨q1558, q1557, q1562, q1565, q1563⟩ (by decide) q1564 q1544 (sF_at (by assumption)) rfl rfl rfl rfl (Nat.le_of_ble_eq_true rfl) (Nat.le_of_ble_eq_true rfl) (by omega) ?_
        rintro _ _ - - ⟨rfl, rfl⟩
        refine aft_v (pc2 := 139) ?_ rfl
        refine wa_astoreV (pc := 139) (y := mJ4_putMapEntries) dJ4_putMapEntries_139 (Nat.le_of_ble_eq_true rfl) (by first | rfl | (simp [okst, rf_cat] <;> assumption)) (by first | exact rf_s _ | exact rf_n | exact rf_q _) ?_
        simp only [List.set_cons_zero, List.set_cons_succ]
        refine wa_aloadV (pc := 141) (y := mJ4_putMapEntries) dJ4_putMapEntries_141 rfl (by first | exact rf_s _ | exact rf_n | exact rf_q _) ?_
        refine wa_callF (k := 14) (pc := 143) (s_J24_getValue (d := d - 1) hNd e5v) dJ4_putMapEntries_143 okJ24_getValue rfl q1570 ⟨q1572, q1571, q1576, q1579, q1563⟩ (by decide) q1578 q1575 (sF_at (by assumption)) rfl rfl rfl rfl (Nat.le_of_ble_eq_true rfl) (Nat.le_of_ble_eq_true rfl) (by omega) ?_
        rintro _ _ - - ⟨rfl, rfl⟩
        refine aft_v (pc2 := 148) ?_ rfl
        refine wa_astoreV (pc := 148) (y := mJ4_putMapEntries) dJ4_putMapEntries_148 (Nat.le_of_ble_eq_true rfl) (by first | rfl | (simp [okst, rf_cat] <;> assumption)) (by first | exact rf_s _ | exact rf_n | exact rf_q _) ?_
        simp only [List.set_cons_zero, List.set_cons_succ]
        refine wa_aloadV_n (pc := 150) (y := mJ4_putMapEntries) dJ4_putMapEntries_150 rfl (by first | exact rf_s _ | exact rf_n | exact rf_q _) ?_
        refine wa_aloadV (pc := 151) (y := mJ4_putMapEntries) dJ4_putMapEntries_151 rfl (by first | exact rf_s _ | exact rf_n | exact rf_q _) ?_
        refine wa_callS (pc := 153) (s_J4_hash (d := d - 1) (by omega) K5) dJ4_putMapEntries_153 okJ4_hash q455 q456 rfl rfl (Nat.le_of_ble_eq_true rfl) (Nat.le_of_ble_eq_true rfl) (by omega) ?_
        rintro _ _ - - ⟨rfl, rfl⟩
        refine aft_v (pc2 := 156) ?_ rfl
        refine wa_aloadV (pc := 156) (y := mJ4_putMapEntries) dJ4_putMapEntries_156 rfl (by first | exact rf_s _ | exact rf_n | exact rf_q _) ?_
        refine wa_aloadV (pc := 158) (y := mJ4_putMapEntries) dJ4_putMapEntries_158 rfl (by first | exact rf_s _ | exact rf_n | exact rf_q _) ?_
        refine wa_iconst (pc := 160) (y := mJ4_putMapEntries) (Int32.ofNat 0) dJ4_putMapEntries_160 rfl ?_
        refine wa_iload_n (pc := 161) (y := mJ4_putMapEntries) dJ4_putMapEntries_161 rfl ?_
        refine wa_callW (k := 12) (pc := 162) (owner := "java/util/HashMap") (s_J4_putVal (d := d - 1) (by omega) hG M5 (tk5 _ t) (by omega) K5) dJ4_putMapEntries_162 okJ4_putVal rfl q1582 q1584 (hDc_code q1583 q1586) (by decide) q1585 q1583 (sF_at (by assumption)) rfl rfl rfl rfl (Nat.le_of_ble_eq_true rfl) (Nat.le_of_ble_eq_true rfl) (by omega) ?_
        rintro r h' - - ⟨h6, F6, ns6, k6, rfl, M6, t6, st6, hcase⟩
        rcases hcase with ⟨v0, m0, -, -⟩ | ⟨-, rfl, e6⟩
        · exact absurd m0 (hnew v0)
        refine aft_v (pc2 := 165) ?_ rfl
        refine wa_pop (pc := 165) (y := mJ4_putMapEntries) dJ4_putMapEntries_165 (by first | rfl | exact rf_cat _) ?_
        have O6 := MapR.oth (it := it) M25 st6.1 (fun b hb => Or.inl hb) M5 (fun b hb => by rw [fp25]; exact hdisj b ((fp5 b).mp hb)) I.1
        refine wa_goto (pc := 166) (y := mJ4_putMapEntries) 110 dJ4_putMapEntries_166 rfl ?_
        exact ih (pre ++ [p]) h6 F6 ns6 k6 (some p) mc _ _ _ (by rw [hns, List.append_assoc]; rfl) rfl rfl rfl M6 t6 st6.2.1.2 (by rw [e6, eD5, es_app]; have e9 := O6.2.1; rw [hns] at e9; obtain ⟨e10, e11⟩ := es_inj (e9.trans (es_app F5 pre (p :: suf))); rw [e10]; congr 1; have e12 : es F6 (p :: suf) = es F5 (p :: suf) := e11; simp only [es, List.map_cons, List.cons.injEq] at e12 ⊢; exact ⟨e12.1.symm, rfl⟩) O6.1 (O6.2.2.1 _ (tk25 _ t2)) (O6.2.1.trans (es25.trans e2)) (by rw [O6.2.2.2.2, m25]; exact h3) (I5.fr st6.1 (fun hb => MFp.no M5 i1 (by decide) hb)) hn1 (Nat.lt_of_lt_of_le hn2 st6.1.1.1) hn3 (fr5.trans st6.1 (fun b hb hb2 => by rcases fD b ((fp5 b).mp hb2) with e | e; exact Or.inl e; omega)) (by have hl6 : ns6.length = nsD.length + 1 := by { have := congrArg List.length e6; simpa [es] using this }; obtain ⟨-, q1, q2, -⟩ := st6; have hk6 : 97 * k6 = 97 * kD + 97 * (k6 - kD) := by { rw [← Nat.mul_add]; congr 1; omega }; have hk7 : 840 * k6 = 840 * kD + 840 * (k6 - kD) := by { rw [← Nat.mul_add]; congr 1; omega }; omega) (fun b hb => (st6.2.2.2 b hb).elim (fun q => fD b ((fp5 b).mp q)) (fun q => Or.inr (by omega))) (fun b hb => fS b ((fp25 b).mp ((O6.2.2.2.1 b).mp hb))) dis lD lS
    refine wa_aloadV (pc := 110) (y := mJ4_putMapEntries) dJ4_putMapEntries_110 rfl (by first | exact rf_s _ | exact rf_n | exact rf_q _) ?_
    refine wa_callF (k := 20) (pc := 112) (s_J29_hasNext_20 (d := d - 1) I) dJ4_putMapEntries_112 okJ29_hasNext rfl q1459 ⟨q1461, q1460, q1472, q1470, q1468⟩ (by decide) q1469 q1471 (sF_at (by assumption)) rfl rfl rfl rfl (Nat.le_of_ble_eq_true rfl) (Nat.le_of_ble_eq_true rfl) (by omega) ?_
    rintro _ _ - - ⟨rfl, rfl⟩
    refine aft_v (pc2 := 117) ?_ rfl
    refine wa_if_eq (pc := 117) 169 dJ4_putMapEntries_117 rfl (fun hb117 => absurd hb117 (by simp [bI])) (fun hb117 => ?_)
    refine wa_aloadV (pc := 120) (y := mJ4_putMapEntries) dJ4_putMapEntries_120 rfl (by first | exact rf_s _ | exact rf_n | exact rf_q _) ?_
    refine wa_callF (k := 20) (pc := 122) (s_J30_next (d := d - 1) (by omega) I M2c h3) dJ4_putMapEntries_122 okJ30_next rfl q1481 ⟨q1483, q1482, q1517, q1515, q1468⟩ (by decide) q1514 q1516 (sF_at (by assumption)) rfl rfl rfl rfl (Nat.le_of_ble_eq_true rfl) (Nat.le_of_ble_eq_true rfl) (by omega) ?_
    rintro _ _ - - ⟨rfl, rfl⟩
    refine aft_v (pc2 := 127) ?_ rfl
    exact K132 _ _ _ h5 h6 h7
end PUTALL
