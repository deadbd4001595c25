/-! ===== putVal ===== -/
section PUT3
variable {G : GG} {d n : Nat} {h h1 h2 h3 hA : AH} {F F1 F2 F3 FA : Nat → Nat → Value} {l m p q x k k1 k2 k3 tb bi i j c s w vv : Nat} {ev : Int32} {ns ns2 ns3 nsA a b A D L : List Nat} {B : Nat → List Nat}
def PtQ (m : Nat) (h : AH) (F : Nat → Nat → Value) (ns : List Nat) (k x vv : Nat) (r : RR) (h' : AH) : Prop :=
  ∃ (h2 : AH) (F2 : Nat → Nat → Value) (ns2 : List Nat) (k2 : Nat), h' = sF h2 F2 ∧ MapR h2 F2 m ns2 ∧ TK h2 F2 m k2 ∧ MStep 20 220 m h F ns k h2 F2 ns2 k2 ∧
    ((∃ v0, (x, v0) ∈ es F ns ∧ r = .inl (some (.ref v0)) ∧ es F2 ns2 = (es F ns).map fun e => if e.1 = x then (x, vv) else e) ∨
      (∀ e, e ∈ es F ns → e.1 ≠ x) ∧ r = .inl (some .null) ∧ es F2 ns2 = es F ns ++ [(x, vv)])
/-- a value replaced -/
theorem MapR.setV (M : MapR h F m ns) (hp : p ∈ ns) : MapR h (updF F p 2 (.ref vv)) m ns ∧ es (updF F p 2 (.ref vv)) ns = (es F ns).map fun e => if e.1 = kF F p then (kF F p, vv) else e := by
  obtain ⟨m1, m2, m3, m5, m10, m11, mlo, mn, mN, minj, mv, mt⟩ := M
  have hN : ∀ z, z ∈ ns → Nd h z := fun z hz => (mN z hz).1
  have hpm : m ≠ p := Ne.symm ((hN p hp).ne m1 (by decide) (by decide))
  have g : ∀ z j, j ≠ 2 → updF F p 2 (.ref vv) z j = F z j := fun z j hj => updF_i hj rfl
  have gm : ∀ j, updF F p 2 (.ref vv) m j = F m j := fun j => updF_a hpm rfl
  have gk : ∀ z, kF (updF F p 2 (.ref vv)) z = kF F z := fun z => kF_congr (g z 0 (by decide))
  have gz : ∀ z, z ≠ p → ∀ j, updF F p 2 (.ref vv) z j = F z j := fun z hz j => updF_a hz rfl
  have vp : vF (updF F p 2 (.ref vv)) p = vv := vF_of (updF_self _ _ _ _)
  have hK : ∀ q j, Is h q 4 2 → updF F p 2 (.ref vv) q j = F q j := fun q j hq => updF_a (Ne.symm ((hN p hp).ne hq (by decide) (by decide))) rfl
  have gv : ∀ i k9, VwR h F m i k9 → k9 = 19 ∨ k9 = 15 ∨ k9 = 17 → VwR h (updF F p 2 (.ref vv)) m i k9 := fun i k9 V hk9 => V.ext Ext.refl (gm i) fun v9 j hv9 => by
    rcases V with V | ⟨v8, q1, q2, -⟩
    · rw [V] at hv9; cases hv9
    · rw [q1] at hv9; cases hv9
      exact updF_a (Ne.symm ((hN p hp).ne q2 (by omega) (by omega))) rfl
  refine ⟨⟨m1, (gm 2).trans m2, m3.imp fun z h => (gm 3).trans h, (gm 5).trans m5, (gm 10).trans m10, (gm 11).trans m11, mlo.congr (gm 8) (gm 9) (fun z _ => g z 4 (by decide)) (fun z _ => g z 5 (by decide)), mn, fun z hz => ?_, fun z w hz hw e => minj z w hz hw (by rw [← gk z, ← gk w]; exact e), ⟨gv 1 19 mv.1 (by decide), gv 6 15 mv.2.1 (by decide), gv 7 17 mv.2.2 (by decide)⟩, ?_⟩, ?_⟩
  · by_cases ez : z = p
    · subst ez
      obtain ⟨z1, z2, z3⟩ := mN z hz
      refine ⟨z1, ?_, ?_⟩
      · rw [gk z]; exact z2.congr (g z 0 (by decide)) (g z 1 (by decide)) hK
      · rw [vp, updF_self]
    · exact (mN z hz).ext Ext.refl (fun j _ => gz z ez j) hK
  · rcases mt with ⟨t1, t2⟩ | ⟨tb, k, B, t1, ⟨tI, tB⟩, t3, t4, t5⟩
    · exact Or.inl ⟨(gm 0).trans t1, by rw [t2.1] at hp; cases hp⟩
    · refine Or.inr ⟨tb, k, B, (gm 0).trans t1, ⟨tI, fun b hb => ?_⟩, t3, (gm 4).trans t4, t5⟩
      obtain ⟨b1, b2, b3, b4⟩ := tB b hb
      exact ⟨(gz tb (Ne.symm ((hN p hp).ne tI (by decide) (by decide))) b).trans b1, b2.congr Ext.refl (fun z j _ hj => g z j (by omega)), b3, fun z => by rw [gk z]; exact b4 z⟩
  · unfold es
    rw [List.map_map]
    refine List.map_congr_left fun z hz => ?_
    simp only [Function.comp, gk]
    by_cases ez : z = p
    · subst ez
      rw [if_pos rfl, vp]
    · rw [if_neg (fun e => ez (minj z p hz hp e)), vF_congr (gz z ez 2)]
theorem es_mem (hp : p ∈ ns) : (kF F p, vF F p) ∈ es F ns := List.mem_map.mpr ⟨p, hp, rfl⟩
theorem MapR.k8 (M : MapR h F m ns) (t : TK h F m k) : k ≤ 8 := by
  obtain ⟨m1, m2, m3, m5, m10, m11, mlo, mn, mN, minj, mv, mt⟩ := M
  rcases mt with ⟨t1, -⟩ | ⟨tb, k2, B, t1, ⟨tI, tB⟩, t3, t4, t5⟩
  · have := t.uniq (Or.inl ⟨t1, rfl⟩)
    omega
  · have := t.uniq (Or.inr ⟨tb, t1, tI⟩)
    omega
theorem s_J5_afterNodeAccess (hm : Is h m 12 12) (h10 : F m 10 = .int 0) (h11 : F m 11 = .int 0) : MA G d mJ5_afterNodeAccess [.ref m, .ref p] (sF h F) (fun r h' => r = .inl none ∧ h' = sF h F) := by
  change WA G d mJ5_afterNodeAccess 0 [.ref m, .ref p, .retAddr 0, .retAddr 0, .retAddr 0, .retAddr 0, .retAddr 0] [] _ _
  refine wa_aloadV_n (pc := 0) (y := mJ5_afterNodeAccess) dJ5_afterNodeAccess_0 rfl (by first | exact rf_s _ | exact rf_n | exact rf_q _) ?_
  refine wf_get (k := 12) (l := 12) 11 dJ5_afterNodeAccess_1 (by assumption) rfl q206 (Or.inl rfl) (Nat.le_of_ble_eq_true rfl) (Nat.le_of_ble_eq_true rfl) (by (repeat (first | exact updF_self _ _ _ _ | (apply updF_i; · decide) | (apply updF_a; · first | assumption | (apply Ne.symm; assumption) | omega) | (apply newF_a; · first | assumption | (apply Ne.symm; assumption) | omega) | exact newL_self (by rfl) | exact newF_self (by rfl) | (apply cpyF_a; · first | assumption | (apply Ne.symm; assumption) | omega))) <;> first | assumption | rfl) ?_
  refine wa_iconst (pc := 4) (y := mJ5_afterNodeAccess) (Int32.ofNat 2) dJ5_afterNodeAccess_4 rfl ?_
  refine wa_icmp_eq (pc := 5) 22 dJ5_afterNodeAccess_5 rfl (fun hb5 => absurd hb5 (by decide)) (fun hb5 => ?_)
  refine wa_aloadV_n (pc := 8) (y := mJ5_afterNodeAccess) dJ5_afterNodeAccess_8 rfl (by first | exact rf_s _ | exact rf_n | exact rf_q _) ?_
  refine wf_get (k := 12) (l := 12) 11 dJ5_afterNodeAccess_9 (by assumption) rfl q206 (Or.inl rfl) (Nat.le_of_ble_eq_true rfl) (Nat.le_of_ble_eq_true rfl) (by (repeat (first | exact updF_self _ _ _ _ | (apply updF_i; · decide) | (apply updF_a; · first | assumption | (apply Ne.symm; assumption) | omega) | (apply newF_a; · first | assumption | (apply Ne.symm; assumption) | omega) | exact newL_self (by rfl) | exact newF_self (by rfl) | (apply cpyF_a; · first | assumption | (apply Ne.symm; assumption) | omega))) <;> first | assumption | rfl) ?_
  refine wa_if_ne (pc := 12) 141 dJ5_afterNodeAccess_12 rfl (fun hb12 => absurd rfl hb12) (fun hb12 => ?_)
  refine wa_aloadV_n (pc := 15) (y := mJ5_afterNodeAccess) dJ5_afterNodeAccess_15 rfl (by first | exact rf_s _ | exact rf_n | exact rf_q _) ?_
  refine wf_get (k := 12) (l := 12) 10 dJ5_afterNodeAccess_16 (by assumption) rfl q205 (Or.inl rfl) (Nat.le_of_ble_eq_true rfl) (Nat.le_of_ble_eq_true rfl) (by (repeat (first | exact updF_self _ _ _ _ | (apply updF_i; · decide) | (apply updF_a; · first | assumption | (apply Ne.symm; assumption) | omega) | (apply newF_a; · first | assumption | (apply Ne.symm; assumption) | omega) | exact newL_self (by rfl) | exact newF_self (by rfl) | (apply cpyF_a; · first | assumption | (apply Ne.symm; assumption) | omega))) <;> first | assumption | rfl) ?_
  refine wa_if_eq (pc := 19) 141 dJ5_afterNodeAccess_19 rfl (fun hb19 => ?_) (fun hb19 => absurd rfl hb19)
  refine wa_aloadV_n (pc := 141) (y := mJ5_afterNodeAccess) dJ5_afterNodeAccess_141 rfl (by first | exact rf_s _ | exact rf_n | exact rf_q _) ?_
  refine wf_get (k := 12) (l := 12) 11 dJ5_afterNodeAccess_142 (by assumption) rfl q206 (Or.inl rfl) (Nat.le_of_ble_eq_true rfl) (Nat.le_of_ble_eq_true rfl) (by (repeat (first | exact updF_self _ _ _ _ | (apply updF_i; · decide) | (apply updF_a; · first | assumption | (apply Ne.symm; assumption) | omega) | (apply newF_a; · first | assumption | (apply Ne.symm; assumption) | omega) | exact newL_self (by rfl) | exact newF_self (by rfl) | (apply cpyF_a; · first | assumption | (apply Ne.symm; assumption) | omega))) <;> first | assumption | rfl) ?_
  refine wa_iconst (pc := 145) (y := mJ5_afterNodeAccess) (Int32.ofNat 1) dJ5_afterNodeAccess_145 rfl ?_
  refine wa_icmp_ne (pc := 146) 265 dJ5_afterNodeAccess_146 rfl (fun hb146 => ?_) (fun hb146 => absurd hb146 (by decide))
  refine wa_return (pc := 265) (y := mJ5_afterNodeAccess) dJ5_afterNodeAccess_265 rfl ⟨rfl, rfl⟩
theorem pv_222 {v1 v2 v6 v7 v8 v9 v11 v12 : Value} (hd : 1 ≤ d) (M : MapR h F m ns) (t : TK h F m k) (hp : p ∈ ns) (hx : kF F p = x) (c11 : v11.category = 1) :
    WA G d mJ4_putVal 222 [.ref m, v1, v2, .ref vv, .int 0, .int ev, v6, v7, v8, v9, .ref p, v11, v12] [] (sF h F) (PtQ m h F ns k x vv) := by
  have M9 := M.setV (vv := vv) hp
  have hk8 := M.k8 t
  obtain ⟨m1, m2, m3, m5, m10, m11, mlo, mn, mN, minj, mv, mt⟩ := M
  obtain ⟨pN, -, p2⟩ := mN p hp
  have hpm : m ≠ p := Ne.symm (pN.ne m1 (by decide) (by decide))
  refine wa_aloadV (pc := 222) (y := mJ4_putVal) dJ4_putVal_222 rfl (by first | exact rf_s _ | exact rf_n | exact rf_q _) ?_
  refine wa_ifnull (pc := 224) (y := mJ4_putVal) dJ4_putVal_224 ?_
  refine wa_aloadV (pc := 227) (y := mJ4_putVal) dJ4_putVal_227 rfl (by first | exact rf_s _ | exact rf_n | exact rf_q _) ?_
  refine wn_get 2 dJ4_putVal_229 (by assumption) q1331 (Or.inl rfl) (Nat.le_of_ble_eq_true rfl) (by (repeat (first | exact updF_self _ _ _ _ | (apply updF_i; · decide) | (apply updF_a; · first | assumption | (apply Ne.symm; assumption) | omega) | (apply newF_a; · first | assumption | (apply Ne.symm; assumption) | omega) | exact newL_self (by rfl) | exact newF_self (by rfl) | (apply cpyF_a; · first | assumption | (apply Ne.symm; assumption) | omega))) <;> first | assumption | rfl) ?_
  refine wa_astoreV (pc := 232) (y := mJ4_putVal) dJ4_putVal_232 (Nat.le_of_ble_eq_true rfl) (by first | rfl | (simp [okst, rf_cat] <;> assumption)) (by first | exact rf_s _ | exact rf_n | exact rf_q _) ?_
  simp only [List.set_cons_zero, List.set_cons_succ]
  refine wa_iload (pc := 234) (y := mJ4_putVal) dJ4_putVal_234 rfl ?_
  refine wa_if_eq (pc := 236) 244 dJ4_putVal_236 rfl (fun hb236 => ?_) (fun hb236 => absurd rfl hb236)
  refine wa_aloadV (pc := 244) (y := mJ4_putVal) dJ4_putVal_244 rfl (by first | exact rf_s _ | exact rf_n | exact rf_q _) ?_
  refine wa_aloadV_n (pc := 246) (y := mJ4_putVal) dJ4_putVal_246 rfl (by first | exact rf_s _ | exact rf_n | exact rf_q _) ?_
  refine wn_put 2 (.object "java/lang/Object") dJ4_putVal_247 (by assumption) q1331 (Or.inl rfl) (Nat.le_of_ble_eq_true rfl) rfl (by decide +kernel) (by first | rfl | exact rf_nar _ | exact rf_nar2 _) (by first | rfl | exact rf_fit _ | exact rf_fit2 _) ?_
  refine wa_aloadV_n (pc := 250) (y := mJ4_putVal) dJ4_putVal_250 rfl (by first | exact rf_s _ | exact rf_n | exact rf_q _) ?_
  refine wa_aloadV (pc := 251) (y := mJ4_putVal) dJ4_putVal_251 rfl (by first | exact rf_s _ | exact rf_n | exact rf_q _) ?_
  refine wa_callW (k := 12) (pc := 253) (owner := "java/util/HashMap") (s_J5_afterNodeAccess (d := d - 1) m1 ((updF_a hpm rfl).trans m10) ((updF_a hpm rfl).trans m11)) dJ4_putVal_253 okJ5_afterNodeAccess rfl q1651 q1653 (hDc_decl q1655) (by decide) q1654 q1085 (sF_at (by assumption)) rfl rfl rfl rfl (Nat.le_of_ble_eq_true rfl) (Nat.le_of_ble_eq_true rfl) (by omega) ?_
  rintro _ _ - - ⟨rfl, rfl⟩
  refine aft_0 (pc2 := 256) ?_ rfl
  refine wa_aloadV (pc := 256) (y := mJ4_putVal) dJ4_putVal_256 rfl (by first | exact rf_s _ | exact rf_n | exact rf_q _) ?_
  refine wa_areturnV (pc := 258) (y := mJ4_putVal) (.object "java/lang/Object") dJ4_putVal_258 rfl (Or.inl ⟨_, rfl⟩) (by first | exact rf_s _ | exact rf_n | exact rf_q _) ⟨h, _, ns, k, rfl, M9.1, ?_, ?_, Or.inl ⟨vF F p, hx ▸ es_mem hp, rfl, by rw [← hx]; exact M9.2⟩⟩
  · exact t.imp (fun ⟨e1, e2⟩ => ⟨(updF_a hpm rfl).trans e1, e2⟩) (fun ⟨tb, e1, e2⟩ => ⟨tb, (updF_a hpm rfl).trans e1, e2⟩)
  · exact ⟨⟨Ext.refl, fun b hb hP => by funext j; exact updF_a (fun e => hP (Or.inr (Or.inl (e ▸ hp)))) rfl⟩, by omega, by omega, MStep.mfp (fun z hz => Or.inl hz) (Or.inl (updF_a hpm rfl)) (fun i _ => updF_a hpm rfl)⟩
theorem pv_new {v2 v3 v4 v6 v7 v8 v9 v10 v11 v12 : Value} {v1 : Value} (hd : 8 ≤ d) (hG : StG G) (M : MapC hA FA m tb k2 nsA B) (S : MStep 20 220 m h F ns k hA FA nsA k2) (hno : ∀ z, z ∈ ns → kF F z ≠ x) (he : es FA nsA = es F ns ++ [(x, vv)]) (hl9 : ns.length ≤ 95) (hl : ns.length ≤ thr k2) (h2 : FA m 2 = .int (Int32.ofNat ns.length)) (h3 : ∃ z : Int32, FA m 3 = .int z) :
    WA G d mJ4_putVal 259 [.ref m, v1, v2, v3, v4, .int ev, v6, v7, v8, v9, v10, v11, v12] [] (sF hA FA) (PtQ m h F ns k x vv) := by
  have hlen : nsA.length = ns.length + 1 := by
    have := congrArg List.length he
    simpa [es] using this
  refine (pv_259 (w := ns.length) hd hG M S.2.1.2 hlen (by omega) hl h2 h3).mono fun r h' _ _ ⟨e1, h4, F4, ns4, k4, e2, e3, e4, e5, e6⟩ => ⟨h4, F4, ns4, k4, e2, e3, e4, (S.trans e6).mono (by omega) (by omega), Or.inr ⟨fun e h9 => ?_, e1, e5.trans he⟩⟩
  obtain ⟨z, hz, rfl⟩ := List.mem_map.mp h9
  exact hno z hz
end PUT3
