/-! ===== removeNode ===== -/
section RMN
variable {G : GG} {d n : Nat} {h h2 : AH} {F F1 F2 F3 : Nat → Nat → Value} {ρ : Nat → Nat} {l m p q x k tb bi i j c s : Nat} {mv : Bool} {ns a b D B' : List Nat} {B : Nat → List Nat}
def RmvQ (m : Nat) (h : AH) (F : Nat → Nat → Value) (ns : List Nat) (k x : Nat) (mv : Bool) (r : RR) (h' : AH) : Prop :=
  (∀ z, z ∈ ns → kF F z ≠ x) ∧ r = .inl (some .null) ∧ h' = sF h F ∨
    ∃ (a : List Nat) (p : Nat) (b : List Nat) (h2 : AH) (F2 : Nat → Nat → Value) (ns2 : List Nat), ns = a ++ p :: b ∧ kF F p = x ∧ r = .inl (some (.ref p)) ∧ h' = sF h2 F2 ∧ MapR h2 F2 m ns2 ∧ TK h2 F2 m k ∧ es F2 ns2 = es F a ++ es F b ∧ MStep 96 576 m h F ns k h2 F2 ns2 k ∧
      (∀ z : Int32, F m 3 = .int z → F2 m 3 = .int (z + 1)) ∧ (Nd h2 p ∧ F2 p 2 = F p 2) ∧ (mv = false → ns2 = a ++ b ∧ h2 = h)
theorem rn_260 {v1 v2 v3 v7 v8 v9 v11 v12 v13 : Value} (hd : 1 ≤ d) (M : MapC h F m tb k ns B) (hs : F m 2 = .int (Int32.ofNat ns.length)) (hmc : ∃ z : Int32, F m 3 = .int z) (hl : ns.length ≤ thr k) (hl9 : ns.length ≤ 96) (hpn : p ∈ ns) (hx : kF F p = x) (hbi : kF F p % 2 ^ k = bi) (R : RepQ (HfP tb bi (B bi)) 6 h F h2 F2 m ns ρ D) (hD : ∀ z, z ∈ D → z ∈ B bi ∧ z ≠ p) (hDn : D.Nodup) (Dk : ∀ z, z ∈ D → Nd h2 (ρ z)) (H : HalfR h2 F2 tb bi B' ρ) (hB' : ∀ z, z ∈ B' ↔ z ∈ B bi ∧ z ≠ p) (hmv : mv = false → D = [] ∧ h2 = h) :
    WA G d mJ4_removeNode 260 [.ref m, v1, v2, v3, .int 0, .int (bI mv), .ref tb, v7, v8, v9, .ref p, v11, v12, v13] [] (sF h2 F2) (RmvQ m h F ns k x mv) := by
  have hne9 := M.ne
  have M9 := M
  obtain ⟨hm, m5, m10, m11, mlo, mn, mN, minj, mvw, t1, ⟨htb, tB⟩, hk1, m4⟩ := M
  have hb : bi < 2 ^ k := by rw [← hbi]; exact Nat.mod_lt _ (Nat.two_pow_pos k)
  have hN : ∀ z, z ∈ ns → Nd h z := fun z hz => (mN z hz).1
  have hlt : ∀ z, z ∈ ns → z < h.1 := fun z hz => (hN z hz).lt
  have hmem : ∀ z, z ∈ B bi → z ∈ ns := fun z hz => (((tB bi hb).2.2.2 z).mp hz).1
  have hDns : ∀ z, z ∈ D → z ∈ ns := fun z hz => hmem z (hD z hz).1
  obtain ⟨mc, hmc⟩ := hmc
  obtain ⟨a, b, hns⟩ := List.append_of_mem hpn
  have R9 := R
  have hnd := R.nodup mn hlt
  obtain ⟨r1, r2, r3, r4, r5, r6, r7, r8⟩ := R
  have hle := r1.1
  have hpD : p ∉ D := fun e => (hD p e).2 rfl
  have hml := hm.lt
  have hm2 := hm.ext r1
  have hρm : ∀ z, z ∈ ns → ρ z ≠ m := fun z hz => by
    by_cases hzD : z ∈ D
    · have := r3 z hzD; omega
    · rw [r4 z hzD]; exact (hne9.2 z hz).1
  have hmap : ns.map ρ = a.map ρ ++ p :: b.map ρ := by rw [hns, List.map_append, List.map_cons, r4 p hpD]
  have hN2 : ∀ z, z ∈ ns.map ρ → Nd h2 z := fun z hz => by
    obtain ⟨w, hw, rfl⟩ := List.mem_map.mp hz
    by_cases hwD : w ∈ D
    · exact Dk w hwD
    · rw [r4 w hwD]; exact (hN w hw).ext r1
  have fm : ∀ i, i ≠ 8 → i ≠ 9 → F2 m i = F m i := fun i h8 h9 => r8 m i hml (fun e => by rcases e with e | e; exact hne9.1 e.1.symm; exact (hne9.2 m (hmem m e.1)).1 rfl) (fun e => by omega) (fun e => (hne9.2 m e.1).1 rfl)
  have f2 : F2 m 2 = .int (Int32.ofNat ns.length) := (fm 2 (by decide) (by decide)).trans hs
  have f3 : F2 m 3 = .int mc := (fm 3 (by decide) (by decide)).trans hmc
  have hlen : 1 ≤ ns.length := by rw [hns]; simp; omega
  obtain ⟨F4, hF4⟩ : ∃ F4, F4 = updF (updF F2 m 3 (.int (mc + Int32.ofNat 1))) m 2 (.int (Int32.ofNat (ns.length - 1))) := ⟨_, rfl⟩
  have g4 : ∀ z j, ¬ (z = m ∧ (j = 2 ∨ j = 3)) → F4 z j = F2 z j := fun z j hz => by
    rw [hF4]
    by_cases e : z = m
    · subst e
      exact (updF_i (fun e => hz ⟨rfl, Or.inl e⟩) rfl).trans (updF_i (fun e => hz ⟨rfl, Or.inr e⟩) rfl)
    · exact (updF_a e rfl).trans (updF_a e rfl)
  have lo4 : LO F4 m (a.map ρ ++ p :: b.map ρ) := by
    rw [← hmap]
    exact r6.congr (g4 m 8 (by omega)) (g4 m 9 (by omega)) (fun z hz => g4 z 4 (by omega)) (fun z hz => g4 z 5 (by omega))
  refine wa_aloadV_n (pc := 260) (y := mJ4_removeNode) dJ4_removeNode_260 rfl (by first | exact rf_s _ | exact rf_n | exact rf_q _) ?_
  refine wa_dup (pc := 261) (y := mJ4_removeNode) dJ4_removeNode_261 (by first | rfl | exact rf_cat _) ?_
  refine wf_get (k := 12) (l := 12) 3 dJ4_removeNode_262 (by assumption) rfl q214 (Or.inl rfl) (Nat.le_of_ble_eq_true rfl) (Nat.le_of_ble_eq_true rfl) (by (repeat (first | exact updF_self _ _ _ _ | (apply updF_i; · decide) | (apply updF_a; · first | assumption | (apply Ne.symm; assumption) | omega) | (apply newF_a; · first | assumption | (apply Ne.symm; assumption) | omega) | exact newL_self (by rfl) | exact newF_self (by rfl) | (apply cpyF_a; · first | assumption | (apply Ne.symm; assumption) | omega))) <;> first | assumption | rfl) ?_
  refine wa_iconst (pc := 265) (y := mJ4_removeNode) (Int32.ofNat 1) dJ4_removeNode_265 rfl ?_
  first | with_reducible refine wa_iaddN (pc := 266) (y := mJ4_removeNode) dJ4_removeNode_266 ?_ | refine wa_iadd (pc := 266) (y := mJ4_removeNode) dJ4_removeNode_266 ?_
  refine wf_put (k := 12) (l := 12) 3 .int dJ4_removeNode_267 (by assumption) rfl q214 (Or.inl rfl) (Nat.le_of_ble_eq_true rfl) rfl (by decide +kernel) rfl rfl ?_
  refine wa_aloadV_n (pc := 270) (y := mJ4_removeNode) dJ4_removeNode_270 rfl (by first | exact rf_s _ | exact rf_n | exact rf_q _) ?_
  refine wa_dup (pc := 271) (y := mJ4_removeNode) dJ4_removeNode_271 (by first | rfl | exact rf_cat _) ?_
  refine wf_get (k := 12) (l := 12) 2 dJ4_removeNode_272 (by assumption) rfl q210 (Or.inl rfl) (Nat.le_of_ble_eq_true rfl) (Nat.le_of_ble_eq_true rfl) (by (repeat (first | exact updF_self _ _ _ _ | (apply updF_i; · decide) | (apply updF_a; · first | assumption | (apply Ne.symm; assumption) | omega) | (apply newF_a; · first | assumption | (apply Ne.symm; assumption) | omega) | exact newL_self (by rfl) | exact newF_self (by rfl) | (apply cpyF_a; · first | assumption | (apply Ne.symm; assumption) | omega))) <;> first | assumption | rfl) ?_
  refine wa_iconst (pc := 275) (y := mJ4_removeNode) (Int32.ofNat 1) dJ4_removeNode_275 rfl ?_
  refine wa_isub (pc := 276) (y := mJ4_removeNode) dJ4_removeNode_276 ?_
  rw [iN_sub hlen]
  refine wf_put (k := 12) (l := 12) 2 .int dJ4_removeNode_277 (by assumption) rfl q210 (Or.inl rfl) (Nat.le_of_ble_eq_true rfl) rfl (by decide +kernel) rfl rfl ?_
  rw [← hF4]
  refine wa_aloadV_n (pc := 280) (y := mJ4_removeNode) dJ4_removeNode_280 rfl (by first | exact rf_s _ | exact rf_n | exact rf_q _) ?_
  refine wa_aloadV (pc := 281) (y := mJ4_removeNode) dJ4_removeNode_281 rfl (by first | exact rf_s _ | exact rf_n | exact rf_q _) ?_
  refine wa_callW (k := 12) (pc := 283) (owner := "java/util/HashMap") (s_J5_afterNodeRemoval (d := d - 1) hm2 lo4 (hmap ▸ hnd) (fun z hz => hN2 z (hmap ▸ hz))) dJ4_removeNode_283 okJ5_afterNodeRemoval rfl q1928 q1930 (hDc_decl q1934) (by decide) q1931 q1932 (sF_at (by assumption)) rfl rfl rfl rfl (Nat.le_of_ble_eq_true rfl) (Nat.le_of_ble_eq_true rfl) (by omega) ?_
  rintro _ _ - - ⟨rfl, F5, rfl, lo5, fr5⟩
  refine aft_0 (pc2 := 286) ?_ rfl
  refine wa_aloadV (pc := 286) (y := mJ4_removeNode) dJ4_removeNode_286 rfl (by first | exact rf_s _ | exact rf_n | exact rf_q _) ?_
  refine wa_areturnV (pc := 288) (y := mJ4_removeNode) (.object "java/util/HashMap$Node") dJ4_removeNode_288 rfl (Or.inl ⟨_, rfl⟩) (by first | exact rf_s _ | exact rf_n | exact rf_q _) (Or.inr ?_)
  rw [← hmap] at fr5
  have fr6 : ∀ z j, ¬ (z = m ∧ (j = 2 ∨ j = 3 ∨ j = 8 ∨ j = 9)) → ¬ (z ∈ ns.map ρ ∧ (j = 4 ∨ j = 5)) → F5 z j = F2 z j := fun z j h1 h2 => (fr5 z j (fun e => h1 ⟨e.1, by omega⟩) h2).trans (g4 z j fun e => h1 ⟨e.1, by omega⟩)
  obtain ⟨B2, MC, e9, f9, n9, gm9⟩ := M9.del hns hbi R9 hD Dk H hB' lo5 fr6
  have h52 : F5 m 2 = .int (Int32.ofNat (ns.length - 1)) := (fr5 m 2 (fun e => by omega) (fun e => by omega)).trans (by rw [hF4, updF_self])
  have h53 : F5 m 3 = .int (mc + 1) := (fr5 m 3 (fun e => by omega) (fun e => by omega)).trans (by rw [hF4, updF_i (by decide) rfl, updF_self]; rfl)
  have hln : (a.map ρ ++ b.map ρ).length = ns.length - 1 := by rw [hns]; simp
  have hDl : D.length ≤ ns.length := nodup_len hDn hDns
  refine ⟨a, p, b, h2, F5, a.map ρ ++ b.map ρ, hns, hx, rfl, rfl, MC.toR (by rw [hln]; exact h52) ⟨_, h53⟩ (by rw [hln]; omega), MC.tk, e9, ⟨f9, ⟨Nat.le_refl _, hk1.2⟩, ⟨by omega, by omega⟩, MStep.mfp n9 (Or.inl (gm9 0 (by decide) (by decide) (by decide) (by decide))) (fun i hi => gm9 i (by omega) (by omega) (by omega) (by omega))⟩, fun z hz => ?_, ⟨hN2 p (hmap ▸ by simp), ?_⟩, fun e => ?_⟩
  · rw [hz] at hmc
    cases hmc
    exact h53
  · rw [fr6 p 2 (fun e => (hne9.2 p hpn).1 e.1) (fun e => by omega)]
    exact r8 p 2 (hlt p hpn) (fun e => by rcases e with e | e; exact (hne9.2 p hpn).2 e.1; omega) (fun e => by omega) (fun e => by omega)
  · obtain ⟨e1, e2⟩ := hmv e
    subst e1
    have : ρ = fun z => z := funext fun z => r4 z (by simp)
    exact ⟨by rw [this]; simp, e2⟩
end RMN
