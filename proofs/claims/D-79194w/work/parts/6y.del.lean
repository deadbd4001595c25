/-! ===== remove: a node leaves the map ===== -/
section DEL
variable {G : GG} {d n : Nat} {h h2 : AH} {F F2 F3 : Nat → Nat → Value} {ρ : Nat → Nat} {l m p q x k tb bi i j c s : Nat} {ns a b D B' : List Nat} {B : Nat → List Nat}
theorem MapC.del (M : MapC h F m tb k ns B) (hns : ns = a ++ p :: b) (hbi : kF F p % 2 ^ k = bi) (R : RepQ (HfP tb bi (B bi)) l h F h2 F2 m ns ρ D) (hD : ∀ z, z ∈ D → z ∈ B bi ∧ z ≠ p) (Dk : ∀ z, z ∈ D → Nd h2 (ρ z)) (H : HalfR h2 F2 tb bi B' ρ) (hB' : ∀ z, z ∈ B' ↔ z ∈ B bi ∧ z ≠ p)
    (lo3 : LO F3 m (a.map ρ ++ b.map ρ)) (fr3 : ∀ z j, ¬ (z = m ∧ (j = 2 ∨ j = 3 ∨ j = 8 ∨ j = 9)) → ¬ (z ∈ ns.map ρ ∧ (j = 4 ∨ j = 5)) → F3 z j = F2 z j) :
    ∃ B2 : Nat → List Nat, MapC h2 F3 m tb k (a.map ρ ++ b.map ρ) B2 ∧ es F3 (a.map ρ ++ b.map ρ) = es F a ++ es F b ∧ Fr (MFp F m ns) h F h2 F3 ∧ (∀ z, z ∈ a.map ρ ++ b.map ρ → z ∈ ns ∨ h.1 ≤ z) ∧ ∀ i, i ≠ 2 → i ≠ 3 → i ≠ 8 → i ≠ 9 → F3 m i = F m i := by
  have hne9 := M.ne
  obtain ⟨hm, m5, m10, m11, mlo, mn, mN, minj, mv, t1, ⟨htb, tB⟩, hk1, m4⟩ := M
  have hb : bi < 2 ^ k := by rw [← hbi]; exact Nat.mod_lt _ (Nat.two_pow_pos k)
  have hN : ∀ z, z ∈ ns → Nd h z := fun z hz => (mN z hz).1
  have hlt : ∀ z, z ∈ ns → z < h.1 := fun z hz => (hN z hz).lt
  have hmem : ∀ b z, b < 2 ^ k → z ∈ B b → z ∈ ns ∧ kF F z % 2 ^ k = b := fun b z hb hz => ((tB b hb).2.2.2 z).mp hz
  have hDns : ∀ z, z ∈ D → z ∈ ns := fun z hz => (hmem bi z hb (hD z hz).1).1
  have hnd := R.nodup mn hlt
  obtain ⟨r1, r2, r3, r4, r5, r6, r7, r8⟩ := R
  have hle := r1.1
  have hml := hm.lt
  have hsub : ∀ z, z ∈ a ++ b → z ∈ ns ∧ z ≠ p := fun z hz => by rw [hns] at mn ⊢; simp at hz ⊢; grind [List.nodup_append]
  have hsub2 : ∀ z, z ∈ ns → z ≠ p → z ∈ a ++ b := fun z hz hp => by rw [hns] at hz; simp at hz ⊢; grind
  have hρm : ∀ z, z ∈ ns → ρ z ≠ m := fun z hz => by
    by_cases hzD : z ∈ D
    · have := r3 z hzD; omega
    · rw [r4 z hzD]; exact (hne9.2 z hz).1
  have g2 : ∀ z i, z ∈ ns → i < 3 → F2 (ρ z) i = F z i := fun z i hz hi => by
    by_cases hzD : z ∈ D
    · exact r7 z hzD i hi
    · rw [r4 z hzD]
      exact r8 z i (hlt z hz) (fun e => by rcases e with e | e; exact (hne9.2 z hz).2 e.1; omega) (fun e => (hne9.2 z hz).1 e.1) (fun e => by omega)
  have g : ∀ z i, z ∈ ns → i < 3 → F3 (ρ z) i = F z i := fun z i hz hi => (fr3 _ _ (fun e => hρm z hz e.1) (fun e => by omega)).trans (g2 z i hz hi)
  have gk : ∀ z, z ∈ ns → kF F3 (ρ z) = kF F z := fun z hz => kF_congr (F := fun a i => F z i) (p := ρ z) (g z 0 hz (by decide))
  have gv : ∀ z, z ∈ ns → vF F3 (ρ z) = vF F z := fun z hz => vF_congr (F := fun a i => F z i) (p := ρ z) (g z 2 hz (by decide))
  have gN : ∀ z, z ∈ ns → Nd h2 (ρ z) := fun z hz => by
    by_cases hzD : z ∈ D
    · exact Dk z hzD
    · rw [r4 z hzD]; exact (hN z hz).ext r1
  have g9 : ∀ z j, z < h.1 → z ≠ tb → z ∉ ns → ¬ (z = m ∧ (j = 2 ∨ j = 3 ∨ j = 8 ∨ j = 9)) → F3 z j = F z j := fun z j hz h1 h2 h3 => (fr3 z j h3 fun e => by
    obtain ⟨w, hw, e9⟩ := List.mem_map.mp e.1
    by_cases hwD : w ∈ D
    · have := r3 w hwD; omega
    · rw [r4 w hwD] at e9; exact h2 (e9 ▸ hw)).trans (r8 z j hz (fun e => by rcases e with e | e; exact h1 e.1; exact h2 (hmem bi z hb e.1).1) (fun e => by omega) (fun e => h2 e.1))
  have gK : ∀ q i, Is h q 4 2 → F3 q i = F q i := fun q i hq => g9 q i hq.lt (hq.ne htb (by decide)) (fun e => (hN q e).ne hq (by decide) (by decide) rfl) (fun e => hq.ne hm (by decide) e.1)
  have gm : ∀ i, i ≠ 2 → i ≠ 3 → i ≠ 8 → i ≠ 9 → F3 m i = F m i := fun i h2 h3 h8 h9 => g9 m i hml (Ne.symm hne9.1) (fun e => (hne9.2 m e).1 rfl) (fun e => by omega)
  have gvw : ∀ i k9, VwR h F m i k9 → k9 = 19 ∨ k9 = 15 ∨ k9 = 17 → i = 1 ∨ i = 6 ∨ i = 7 → VwR h2 F3 m i k9 := fun i k9 V hk9 hi => V.ext r1 (gm i (by omega) (by omega) (by omega) (by omega)) fun v9 j hv9 => by
    rcases V with V | ⟨v8, q1, q2, -⟩
    · rw [V] at hv9; cases hv9
    · rw [q1] at hv9; cases hv9
      exact g9 v9 j q2.lt (q2.ne htb (by omega)) (fun e => (hN v9 e).ne q2 (by omega) (by omega) rfl) (fun e => q2.ne hm (by omega) e.1)
  have hmapn : a.map ρ ++ b.map ρ = (a ++ b).map ρ := by rw [List.map_append]
  rw [hmapn] at lo3 ⊢
  obtain ⟨L, e1, e2, e3, e4⟩ := H
  have hL : ∀ z, z ∈ L → ∃ w, w ∈ B bi ∧ w ≠ p ∧ ρ w = z := fun z hz => by obtain ⟨w, hw, e⟩ := (e4 z).mp hz; exact ⟨w, ((hB' w).mp hw).1, ((hB' w).mp hw).2, e⟩
  refine ⟨fun c => if c = bi then L else B c, ⟨hm.ext r1, (gm 5 (by decide) (by decide) (by decide) (by decide)).trans m5, (gm 10 (by decide) (by decide) (by decide) (by decide)).trans m10, (gm 11 (by decide) (by decide) (by decide) (by decide)).trans m11, lo3, ?_, fun z hz => ?_, fun p q hp hq e => ?_, ⟨gvw 1 19 mv.1 (by decide) (by decide), gvw 6 15 mv.2.1 (by decide) (by decide), gvw 7 17 mv.2.2 (by decide) (by decide)⟩, (gm 0 (by decide) (by decide) (by decide) (by decide)).trans t1, ⟨htb.ext r1, fun b9 hb9 => ?_⟩, hk1, (gm 4 (by decide) (by decide) (by decide) (by decide)).trans m4⟩, ?_, ⟨r1, fun b hb hP => ?_⟩, fun z hz => ?_, gm⟩
  · rw [hns, List.map_append, List.map_cons] at hnd
    rw [← hmapn]
    grind [List.nodup_append]
  · obtain ⟨w, hw, rfl⟩ := List.mem_map.mp hz
    have hw := (hsub w hw).1
    obtain ⟨-, ⟨e0, q, e1, eK⟩, e2⟩ := mN w hw
    refine ⟨gN w hw, ?_, ?_⟩
    · rw [gk w hw]
      exact ⟨(g w 0 hw (by decide)).trans e0, q, (g w 1 hw (by decide)).trans e1, eK.1.ext r1, (gK q 0 eK.1).trans eK.2.1, (gK q 1 eK.1).trans eK.2.2.1, eK.2.2.2⟩
    · rw [gv w hw]
      exact (g w 2 hw (by decide)).trans e2
  · obtain ⟨w, hw, rfl⟩ := List.mem_map.mp hp
    obtain ⟨w2, hw2, rfl⟩ := List.mem_map.mp hq
    have hw := (hsub w hw).1
    have hw2 := (hsub w2 hw2).1
    rw [gk w hw, gk w2 hw2] at e
    rw [minj w w2 hw hw2 e]
  · by_cases eb : b9 = bi
    · subst eb
      simp only [if_true]
      refine ⟨(fr3 tb b9 (fun e => hne9.1 e.1) (fun e => ?_)).trans e1, e2.congr Ext.refl (fun z j hz hj => ?_), e3, fun z => ⟨fun hz => ?_, fun ⟨h1, h2⟩ => ?_⟩⟩
      · obtain ⟨w, hw, e9⟩ := List.mem_map.mp e.1
        by_cases hwD : w ∈ D
        · have := r3 w hwD; have := htb.lt; omega
        · rw [r4 w hwD] at e9; exact (hne9.2 w hw).2 e9
      · obtain ⟨w, hw, hwp, rfl⟩ := hL z hz
        exact fr3 _ _ (fun e => hρm w (hmem b9 w hb9 hw).1 e.1) (fun e => by omega)
      · obtain ⟨w, hw, hwp, rfl⟩ := hL z hz
        have h9 := hmem b9 w hb9 hw
        exact ⟨List.mem_map.mpr ⟨w, hsub2 w h9.1 hwp, rfl⟩, by rw [gk w h9.1]; exact h9.2⟩
      · obtain ⟨w, hw, rfl⟩ := List.mem_map.mp h1
        have hw := hsub w hw
        rw [gk w hw.1] at h2
        exact (e4 _).mpr ⟨w, (hB' w).mpr ⟨((tB b9 hb9).2.2.2 w).mpr ⟨hw.1, h2⟩, hw.2⟩, rfl⟩
    · simp only [if_neg eb]
      obtain ⟨b1, b2, b3, b4⟩ := tB b9 hb9
      have hzb : ∀ z, z ∈ B b9 → z ∉ B bi := fun z h1 h2 => eb ((hmem b9 z hb9 h1).2.symm.trans (hmem bi z hb h2).2)
      have hρ : ∀ z, z ∈ B b9 → ρ z = z := fun z hz => r4 z fun e => hzb z hz (hD z e).1
      have hpn : p ∈ ns := by rw [hns]; simp
      have hzp : ∀ z, z ∈ B b9 → z ≠ p := fun z hz e => eb (by rw [← (hmem b9 z hb9 hz).2, e, hbi])
      refine ⟨(fr3 tb b9 (fun e => hne9.1 e.1) (fun e => ?_)).trans ((r8 tb b9 htb.lt (fun e => by rcases e with e | e; exact eb e.2; exact (hne9.2 tb (hmem bi tb hb e.1).1).2 rfl) (fun e => hne9.1 e.1) (fun e => (hne9.2 tb e.1).2 rfl)).trans b1), b2.congr r1 (fun z i hz hi => ?_), b3, fun z => ⟨fun hz => ?_, fun ⟨h1, h2⟩ => ?_⟩⟩
      · obtain ⟨w, hw, e9⟩ := List.mem_map.mp e.1
        by_cases hwD : w ∈ D
        · have := r3 w hwD; have := htb.lt; omega
        · rw [r4 w hwD] at e9; exact (hne9.2 w hw).2 e9
      · have h9 := (hmem b9 z hb9 hz).1
        exact (fr3 z i (fun e => (hne9.2 z h9).1 e.1) (fun e => by omega)).trans (r8 z i (hlt z h9) (fun e => by rcases e with e | e; exact (hne9.2 z h9).2 e.1; exact hzb z hz e.1) (fun e => (hne9.2 z h9).1 e.1) (fun e => by omega))
      · have h9 := hmem b9 z hb9 hz
        refine ⟨List.mem_map.mpr ⟨z, hsub2 z h9.1 (hzp z hz), hρ z hz⟩, ?_⟩
        rw [← hρ z hz, gk z h9.1]
        exact h9.2
      · obtain ⟨w, hw, rfl⟩ := List.mem_map.mp h1
        have hw := (hsub w hw).1
        rw [gk w hw] at h2
        have h9 := (b4 w).mpr ⟨hw, h2⟩
        rw [hρ w h9]
        exact h9
  · unfold es
    rw [List.map_map, ← List.map_append]
    exact List.map_congr_left fun z hz => by
      show (kF F3 (ρ z), vF F3 (ρ z)) = _
      rw [gk z (hsub z hz).1, gv z (hsub z hz).1]
  · have hbm : b ≠ m := fun e => hP (Or.inl e)
    have hbn : b ∉ ns := fun e => hP (Or.inr (Or.inl e))
    funext i
    exact g9 b i (by assumption) (fun e => hP (Or.inr (Or.inr (Or.inl (by rw [e]; exact t1))))) hbn (fun e => hbm e.1)
  · obtain ⟨w, hw, rfl⟩ := List.mem_map.mp hz
    by_cases hwD : w ∈ D
    · exact Or.inr (r3 w hwD).1
    · rw [r4 w hwD]; exact Or.inl (hsub w hw).1
end DEL
