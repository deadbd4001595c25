/-! ===== a bin changed, some of its nodes replaced ===== -/
section TBN
variable {G : GG} {d n : Nat} {h h1 h2 h3 : AH} {F F1 F2 F3 : Nat → Nat → Value} {ρ ρ1 : Nat → Nat} {l m p q x k tb bi i j c s : Nat} {ns a b A D : List Nat} {B : Nat → List Nat}
theorem MapC.rep (M : MapC h F m tb k ns B) (hbi : bi < 2 ^ k) (R : RepQ (HfP tb bi (B bi)) l h F h2 F2 m ns ρ D) (hD : ∀ z, z ∈ D → z ∈ B bi) (Dk : ∀ z, z ∈ D → Nd h2 (ρ z)) (H : HalfR h2 F2 tb bi (B bi) ρ) :
    ∃ B2 : Nat → List Nat, MapC h2 F2 m tb k (ns.map ρ) B2 ∧ es F2 (ns.map ρ) = es F ns ∧ Fr (MFp F m ns) h F h2 F2 ∧ (∀ z, z ∈ ns.map ρ → z ∈ ns ∨ h.1 ≤ z) ∧ ∀ i, i ≠ 8 → i ≠ 9 → F2 m i = F m i := by
  have hne9 := M.ne
  obtain ⟨hm, m5, m10, m11, mlo, mn, mN, minj, mv, t1, ⟨htb, tB⟩, hk1, m4⟩ := M
  have hN : ∀ z, z ∈ ns → Nd h z := fun z hz => (mN z hz).1
  have hlt : ∀ z, z ∈ ns → z < h.1 := fun z hz => (hN z hz).lt
  have hmem : ∀ b z, b < 2 ^ k → z ∈ B b → z ∈ ns ∧ kF F z % 2 ^ k = b := fun b z hb hz => ((tB b hb).2.2.2 z).mp hz
  have hDns : ∀ z, z ∈ D → z ∈ ns := fun z hz => (hmem bi z hbi (hD z hz)).1
  have hnd := R.nodup mn hlt
  obtain ⟨r1, r2, r3, r4, r5, r6, r7, r8⟩ := R
  have hle := r1.1
  have hml := hm.lt
  have g : ∀ z i, z ∈ ns → i < 3 → F2 (ρ z) i = F z i := fun z i hz hi => by
    by_cases hzD : z ∈ D
    · exact r7 z hzD i hi
    · rw [r4 z hzD]
      exact r8 z i (hlt z hz) (fun e => by rcases e with e | e; exact (hne9.2 z hz).2 e.1; omega) (fun e => (hne9.2 z hz).1 e.1) (fun e => by omega)
  have gk : ∀ z, z ∈ ns → kF F2 (ρ z) = kF F z := fun z hz => kF_congr (F := fun a i => F z i) (p := ρ z) (g z 0 hz (by decide))
  have gv : ∀ z, z ∈ ns → vF F2 (ρ z) = vF F z := fun z hz => vF_congr (F := fun a i => F z i) (p := ρ z) (g z 2 hz (by decide))
  have gN : ∀ z, z ∈ ns → Nd h2 (ρ z) := fun z hz => by
    by_cases hzD : z ∈ D
    · exact Dk z hzD
    · rw [r4 z hzD]; exact (hN z hz).ext r1
  have gK : ∀ q i, Is h q 4 2 → F2 q i = F q i := fun q i hq => r8 q i hq.lt (fun e => by rcases e with e | e; exact hq.ne htb (by decide) e.1; exact (hN q (hmem bi q hbi e.1).1).ne hq (by decide) (by decide) rfl) (fun e => hq.ne hm (by decide) e.1) (fun e => (hN q e.1).ne hq (by decide) (by decide) rfl)
  have gm : ∀ i, i ≠ 8 → i ≠ 9 → F2 m i = F m i := fun i h8 h9 => r8 m i hml (fun e => by rcases e with e | e; exact hne9.1 e.1.symm; exact (hne9.2 m (hmem bi m hbi e.1).1).1 rfl) (fun e => by omega) (fun e => (hne9.2 m e.1).1 rfl)
  have gvw : ∀ i k9, VwR h F m i k9 → k9 = 19 ∨ k9 = 15 ∨ k9 = 17 → i = 1 ∨ i = 6 ∨ i = 7 → VwR h2 F2 m i k9 := fun i k9 V hk9 hi => V.ext r1 (gm i (by omega) (by omega)) fun v9 j hv9 => by
    rcases V with V | ⟨v8, q1, q2, -⟩
    · rw [V] at hv9; cases hv9
    · rw [q1] at hv9; cases hv9
      exact r8 v9 j q2.lt (fun e => by rcases e with e | e; exact q2.ne htb (by omega) e.1; exact (hN v9 (hmem bi v9 hbi e.1).1).ne q2 (by omega) (by omega) rfl) (fun e => q2.ne hm (by omega) e.1) (fun e => (hN v9 e.1).ne q2 (by omega) (by omega) rfl)
  obtain ⟨L, e1, e2, e3, e4⟩ := H
  refine ⟨fun c => if c = bi then L else B c, ⟨hm.ext r1, (gm 5 (by decide) (by decide)).trans m5, (gm 10 (by decide) (by decide)).trans m10, (gm 11 (by decide) (by decide)).trans m11, r6, hnd, fun z hz => ?_, fun p q hp hq e => ?_, ⟨gvw 1 19 mv.1 (by decide) (by decide), gvw 6 15 mv.2.1 (by decide) (by decide), gvw 7 17 mv.2.2 (by decide) (by decide)⟩, (gm 0 (by decide) (by decide)).trans t1, ⟨htb.ext r1, fun b hb => ?_⟩, hk1, (gm 4 (by decide) (by decide)).trans m4⟩, ?_, ⟨r1, fun b hb hP => ?_⟩, fun z hz => ?_, gm⟩
  · obtain ⟨w, hw, rfl⟩ := List.mem_map.mp hz
    obtain ⟨-, ⟨e0, q, e1, eK⟩, e2⟩ := mN w hw
    refine ⟨gN w hw, ?_, ?_⟩
    · rw [gk w hw]
      exact ⟨(g w 0 hw (by decide)).trans e0, q, (g w 1 hw (by decide)).trans e1, eK.1.ext r1, (gK q 0 eK.1).trans eK.2.1, (gK q 1 eK.1).trans eK.2.2.1, eK.2.2.2⟩
    · rw [gv w hw]
      exact (g w 2 hw (by decide)).trans e2
  · obtain ⟨w, hw, rfl⟩ := List.mem_map.mp hp
    obtain ⟨w2, hw2, rfl⟩ := List.mem_map.mp hq
    rw [gk w hw, gk w2 hw2] at e
    rw [minj w w2 hw hw2 e]
  · by_cases eb : b = bi
    · subst eb
      simp only [if_true]
      refine ⟨e1, e2, e3, fun p => (e4 p).trans ⟨fun ⟨z, hz, e⟩ => ?_, fun ⟨h1, h2⟩ => ?_⟩⟩
      · subst e
        have h9 := hmem b z hb hz
        exact ⟨List.mem_map.mpr ⟨z, h9.1, rfl⟩, by rw [gk z h9.1]; exact h9.2⟩
      · obtain ⟨z, hz, rfl⟩ := List.mem_map.mp h1
        rw [gk z hz] at h2
        exact ⟨z, ((tB b hb).2.2.2 z).mpr ⟨hz, h2⟩, rfl⟩
    · simp only [if_neg eb]
      obtain ⟨b1, b2, b3, b4⟩ := tB b hb
      have hzb : ∀ z, z ∈ B b → z ∉ B bi := fun z h1 h2 => eb ((hmem b z hb h1).2.symm.trans (hmem bi z hbi h2).2)
      have hρ : ∀ z, z ∈ B b → ρ z = z := fun z hz => r4 z fun e => hzb z hz (hD z e)
      refine ⟨(r8 tb b htb.lt (fun e => by rcases e with e | e; exact eb e.2; exact (hne9.2 tb (hmem bi tb hbi e.1).1).2 rfl) (fun e => hne9.1 e.1) (fun e => (hne9.2 tb e.1).2 rfl)).trans b1, b2.congr r1 (fun z i hz hi => ?_), b3, fun p => ⟨fun hp => ?_, fun ⟨h1, h2⟩ => ?_⟩⟩
      · have h9 := (hmem b z hb hz).1
        exact r8 z i (hlt z h9) (fun e => by rcases e with e | e; exact (hne9.2 z h9).2 e.1; exact hzb z hz e.1) (fun e => (hne9.2 z h9).1 e.1) (fun e => by omega)
      · have h9 := hmem b p hb hp
        refine ⟨List.mem_map.mpr ⟨p, h9.1, hρ p hp⟩, ?_⟩
        rw [← hρ p hp, gk p h9.1]
        exact h9.2
      · obtain ⟨z, hz, rfl⟩ := List.mem_map.mp h1
        rw [gk z hz] at h2
        have h9 := (b4 z).mpr ⟨hz, h2⟩
        rw [hρ z h9]
        exact h9
  · unfold es
    rw [List.map_map]
    exact List.map_congr_left fun z hz => by
      show (kF F2 (ρ z), vF F2 (ρ z)) = _
      rw [gk z hz, gv z hz]
  · have hbm : b ≠ m := fun e => hP (Or.inl e)
    have hbn : b ∉ ns := fun e => hP (Or.inr (Or.inl e))
    funext i
    exact r8 b i hb (fun e => by rcases e with e | e; exact hP (Or.inr (Or.inr (Or.inl (by rw [e.1]; exact t1)))); exact hbn (hmem bi b hbi e.1).1) (fun e => hbm e.1) (fun e => hbn e.1)
  · obtain ⟨w, hw, rfl⟩ := List.mem_map.mp hz
    by_cases hwD : w ∈ D
    · exact Or.inr (r3 w hwD).1
    · rw [r4 w hwD]; exact Or.inl hw
/-- numbers below 1200 in one bin of 64 or more: at most 19 -/
theorem bin_19 (hk : 6 ≤ k) (hn : A.Nodup) (hlt : ∀ z, z ∈ A → kF F z < 1200) (hinj : ∀ p q, p ∈ A → q ∈ A → kF F p = kF F q → p = q) (hmod : ∀ z, z ∈ A → kF F z % 2 ^ k = bi) : A.length ≤ 19 := by
  have h1 : ((A.map fun z => kF F z / 64)).Nodup := by
    rw [List.nodup_iff_pairwise_ne, List.pairwise_map]
    refine List.Pairwise.imp_of_mem (fun {x y} hx hy hxy e => hxy (hinj x y hx hy ?_)) (List.nodup_iff_pairwise_ne.mp hn)
    have hd : (64 : Nat) ∣ 2 ^ k := by
      obtain ⟨c, rfl⟩ : ∃ c, k = 6 + c := ⟨k - 6, by omega⟩
      rw [Nat.pow_add]
      exact ⟨2 ^ c, by rfl⟩
    have e2 : kF F x % 64 = kF F y % 64 := by
      rw [← Nat.mod_mod_of_dvd (kF F x) hd, ← Nat.mod_mod_of_dvd (kF F y) hd, hmod x hx, hmod y hy]
    omega
  have h2 := nodup_len (b := List.range 19) h1 fun z hz => by
    obtain ⟨w, hw, rfl⟩ := List.mem_map.mp hz
    have := hlt w hw
    simp
    omega
  simpa using h2
/-- the map rearranged: the same numbers and values -/
def ReQ (c s : Nat) (h : AH) (F : Nat → Nat → Value) (m : Nat) (ns : List Nat) (k : Nat) (h' : AH) : Prop :=
  ∃ (h2 : AH) (F2 : Nat → Nat → Value) (tb2 k2 : Nat) (ns2 : List Nat) (B2 : Nat → List Nat), h' = sF h2 F2 ∧ MapC h2 F2 m tb2 k2 ns2 B2 ∧ k ≤ k2 ∧ k2 ≤ k + 1 ∧ k2 ≤ 8 ∧ es F2 ns2 = es F ns ∧ Fr (MFp F m ns) h F h2 F2 ∧ (h2.1 ≤ h.1 + c + 97 * (k2 - k) ∧ h2.2.1 ≤ h.2.1 + s + 840 * (k2 - k)) ∧ (∀ z, z ∈ ns2 → z ∈ ns ∨ h.1 ≤ z) ∧ (F2 m 0 = F m 0 ∨ h.1 ≤ tb2) ∧ ∀ i, i = 1 ∨ i = 2 ∨ i = 3 ∨ i = 6 ∨ i = 7 → F2 m i = F m i
theorem ReQ.ofRz {r : RR} {h' : AH} (hk : k ≤ 7) (hlen : ns.length ≤ 96) (z : RzQ h F m ns (k + 1) r h') : ReQ c s h F m ns k h' := by
  obtain ⟨h2, F2, nt, ns2, B2, -, rfl, e1, M, e2, e3, e4, e5, e6⟩ := z
  have hk2 : 2 ^ (k + 1) ≤ 2 ^ 8 := Nat.pow_le_pow_right (by decide) (by omega)
  have : k + 1 - k = 1 := by omega
  exact ⟨h2, F2, nt, k + 1, ns2, B2, rfl, M, by omega, by omega, by omega, e2, e3, by rw [this]; omega, e5, Or.inr e1, e6⟩
end TBN
