/-! ===== put: a new node, the counters ===== -/
section PUT1
variable {G : GG} {d n : Nat} {h h1 h2 h3 : AH} {F F1 F2 F3 : Nat → Nat → Value} {ρ ρ1 : Nat → Nat} {l m p q x k k1 k2 k3 tb bi i j c s c2 s2 vv : Nat} {ns ns2 ns3 a b A D L : List Nat} {B : Nat → List Nat}
/-- the table has 2^k bins; k = 0 where there is none -/
def TK (h : AH) (F : Nat → Nat → Value) (m k : Nat) : Prop := F m 0 = .null ∧ k = 0 ∨ ∃ tb, F m 0 = .ref tb ∧ Is h tb 36 (2 ^ k)
/-- a step of a map: what it may have changed and taken -/
def MStep (c s : Nat) (m : Nat) (h : AH) (F : Nat → Nat → Value) (ns : List Nat) (k : Nat) (h2 : AH) (F2 : Nat → Nat → Value) (ns2 : List Nat) (k2 : Nat) : Prop :=
  Fr (MFp F m ns) h F h2 F2 ∧ (k ≤ k2 ∧ k2 ≤ 8) ∧ (h2.1 ≤ h.1 + c + 97 * (k2 - k) ∧ h2.2.1 ≤ h.2.1 + s + 840 * (k2 - k)) ∧ ∀ b, MFp F2 m ns2 b → MFp F m ns b ∨ h.1 ≤ b
theorem MStep.refl (hk : k ≤ 8) : MStep c s m h F ns k h F ns k := ⟨Fr.refl, by omega, by omega, fun b hb => Or.inl hb⟩
theorem MStep.trans (S1 : MStep c s m h F ns k h2 F2 ns2 k2) (S2 : MStep c2 s2 m h2 F2 ns2 k2 h3 F3 ns3 k3) : MStep (c + c2) (s + s2) m h F ns k h3 F3 ns3 k3 := by
  obtain ⟨f1, a1, b1, e1⟩ := S1
  obtain ⟨f2, a2, b2, e2⟩ := S2
  have hle := f1.1.1
  exact ⟨f1.trans f2 fun b hb h9 => (e1 b h9).elim id fun h => by omega, by omega, by omega, fun b hb => (e2 b hb).elim (e1 b) fun h => Or.inr (by omega)⟩
theorem MStep.mono (S1 : MStep c s m h F ns k h2 F2 ns2 k2) (hc : c ≤ c2) (hs : s ≤ s2) : MStep c2 s2 m h F ns k h2 F2 ns2 k2 := by
  obtain ⟨f1, a1, b1, e1⟩ := S1
  exact ⟨f1, a1, by omega, e1⟩
theorem MStep.mfp (hn : ∀ z, z ∈ ns2 → z ∈ ns ∨ h.1 ≤ z) (h0 : F2 m 0 = F m 0 ∨ ∃ t, F2 m 0 = .ref t ∧ h.1 ≤ t) (hi : ∀ i, i = 1 ∨ i = 6 ∨ i = 7 → F2 m i = F m i) : ∀ b, MFp F2 m ns2 b → MFp F m ns b ∨ h.1 ≤ b := by
  intro b hb
  rcases hb with e | e | e | e | e | e
  · exact Or.inl (Or.inl e)
  · exact (hn b e).imp (fun e => Or.inr (Or.inl e)) id
  · rcases h0 with h0 | ⟨t, h0, h9⟩
    · exact Or.inl (Or.inr (Or.inr (Or.inl (h0.symm.trans e))))
    · rw [h0] at e; cases e; exact Or.inr h9
  · exact Or.inl (Or.inr (Or.inr (Or.inr (Or.inl ((hi 1 (by decide)).symm.trans e)))))
  · exact Or.inl (Or.inr (Or.inr (Or.inr (Or.inr (Or.inl ((hi 6 (by decide)).symm.trans e))))))
  · exact Or.inl (Or.inr (Or.inr (Or.inr (Or.inr (Or.inr ((hi 7 (by decide)).symm.trans e))))))
theorem MapC.tk (M : MapC h F m tb k ns B) : TK h F m k := Or.inr ⟨tb, M.2.2.2.2.2.2.2.2.2.1, M.tbl⟩
theorem TK.uniq (t : TK h F m k) (t2 : TK h F m k2) : k = k2 := by
  rcases t with ⟨e, rfl⟩ | ⟨tb, e, i⟩
  · rcases t2 with ⟨e2, rfl⟩ | ⟨tb2, e2, i2⟩
    · rfl
    · rw [e] at e2; cases e2
  · rcases t2 with ⟨e2, rfl⟩ | ⟨tb2, e2, i2⟩
    · rw [e] at e2; cases e2
    · rw [e] at e2; cases e2
      exact (Nat.pow_right_inj (by decide)).mp (i.uniq i2).2
/-- a new node joins the map -/
theorem MapC.add {kd : Nat} (M : MapC h F m tb k ns B) (hkd : kd = 13 ∧ l = 6 ∨ kd = 14 ∧ l = 11) (K : KeyAt h F q x) (hno : ∀ z, z ∈ ns → kF F z ≠ x) (hbi : x % 2 ^ k = bi) (lo2 : LO F2 m (ns ++ [h.1])) (n0 : F2 h.1 0 = .int (Int32.ofNat x)) (n1 : F2 h.1 1 = .ref q) (n2 : F2 h.1 2 = .ref vv)
    (e1 : F2 tb bi = va_rf L.head?) (e2 : BinR (hNew h kd l) F2 L) (e3 : L.Nodup) (e4 : ∀ p, p ∈ L ↔ p ∈ B bi ∨ p = h.1) (fr : ∀ b j, b ≠ h.1 → ¬ (b = tb ∧ j = bi) → ¬ (b ∈ B bi ∧ (j = 3 ∨ j = 6 ∨ j = 7 ∨ j = 8 ∨ j = 9 ∨ j = 10)) → ¬ (b = m ∧ (j = 8 ∨ j = 9)) → ¬ (b ∈ ns ∧ (j = 4 ∨ j = 5)) → F2 b j = F b j) :
    ∃ B2 : Nat → List Nat, MapC (hNew h kd l) F2 m tb k (ns ++ [h.1]) B2 ∧ es F2 (ns ++ [h.1]) = es F ns ++ [(x, vv)] ∧ MStep 1 11 m h F ns k (hNew h kd l) F2 (ns ++ [h.1]) k ∧ ∀ i, i ≠ 8 → i ≠ 9 → F2 m i = F m i := by
  have hne9 := M.ne
  obtain ⟨hm, m5, m10, m11, mlo, mn, mN, minj, mv, t1, ⟨htb, tB⟩, hk1, m4⟩ := M
  have hN : ∀ z, z ∈ ns → Nd h z := fun z hz => (mN z hz).1
  have hlt : ∀ z, z ∈ ns → z < h.1 := fun z hz => (hN z hz).lt
  have hmem : ∀ b z, b < 2 ^ k → z ∈ B b → z ∈ ns ∧ kF F z % 2 ^ k = b := fun b z hb hz => ((tB b hb).2.2.2 z).mp hz
  have hb : bi < 2 ^ k := by rw [← hbi]; exact Nat.mod_lt _ (Nat.two_pow_pos k)
  have hml := hm.lt
  have htl := htb.lt
  have hx := K.2.2.2
  have g : ∀ z i, z ∈ ns → i < 3 → F2 z i = F z i := fun z i hz hi => fr z i (by have := hlt z hz; omega) (fun e => (hne9.2 z hz).2 e.1) (fun e => by omega) (fun e => (hne9.2 z hz).1 e.1) (fun e => by omega)
  have gk : ∀ z, z ∈ ns → kF F2 z = kF F z := fun z hz => kF_congr (g z 0 hz (by decide))
  have gv : ∀ z, z ∈ ns → vF F2 z = vF F z := fun z hz => vF_congr (g z 2 hz (by decide))
  have gK : ∀ q i, Is h q 4 2 → F2 q i = F q i := fun q i hq => fr q i (by have := hq.lt; omega) (fun e => hq.ne htb (by decide) e.1) (fun e => (hN q (hmem bi q hb e.1).1).ne hq (by decide) (by decide) rfl) (fun e => hq.ne hm (by decide) e.1) (fun e => (hN q e.1).ne hq (by decide) (by decide) rfl)
  have gm : ∀ i, i ≠ 8 → i ≠ 9 → F2 m i = F m i := fun i h8 h9 => fr m i (by omega) (fun e => hne9.1 e.1.symm) (fun e => (hne9.2 m (hmem bi m hb e.1).1).1 rfl) (fun e => by omega) (fun e => (hne9.2 m e.1).1 rfl)
  have gvw : ∀ i k9, VwR h F m i k9 → k9 = 19 ∨ k9 = 15 ∨ k9 = 17 → i = 1 ∨ i = 6 ∨ i = 7 → VwR (hNew h kd l) F2 m i k9 := fun i k9 V hk9 hi => V.ext Ext.new (gm i (by omega) (by omega)) fun v9 j hv9 => by
    rcases V with V | ⟨v8, q1, q2, -⟩
    · rw [V] at hv9; cases hv9
    · rw [q1] at hv9; cases hv9
      exact fr v9 j (by have := q2.lt; omega) (fun e => q2.ne htb (by omega) e.1) (fun e => (hN v9 (hmem bi v9 hb e.1).1).ne q2 (by omega) (by omega) rfl) (fun e => q2.ne hm (by omega) e.1) (fun e => (hN v9 e.1).ne q2 (by omega) (by omega) rfl)
  have hnew : h.1 ∉ ns := fun e => Nat.lt_irrefl _ (hlt _ e)
  have kx : kF F2 h.1 = x := kF_of n0 (by omega)
  have vx : vF F2 h.1 = vv := vF_of n2
  have hNn : Nd (hNew h kd l) h.1 := by
    rcases hkd with ⟨rfl, rfl⟩ | ⟨rfl, rfl⟩
    · exact Or.inl Is.self
    · exact Or.inr Is.self
  refine ⟨fun c => if c = bi then L else B c, ⟨hm.new, (gm 5 (by decide) (by decide)).trans m5, (gm 10 (by decide) (by decide)).trans m10, (gm 11 (by decide) (by decide)).trans m11, lo2, ?_, fun z hz => ?_, fun p q hp hq e => ?_, ⟨gvw 1 19 mv.1 (by decide) (by decide), gvw 6 15 mv.2.1 (by decide) (by decide), gvw 7 17 mv.2.2 (by decide) (by decide)⟩, (gm 0 (by decide) (by decide)).trans t1, ⟨htb.new, fun b hb9 => ?_⟩, hk1, (gm 4 (by decide) (by decide)).trans m4⟩, ?_, ⟨⟨Ext.new, fun b hb9 hP => ?_⟩, by omega, ⟨by rw [hNew_1]; omega, by rw [hNew_2]; omega⟩, MStep.mfp (fun z hz => ?_) (Or.inl (gm 0 (by decide) (by decide))) (fun i hi => gm i (by omega) (by omega))⟩, gm⟩
  · rw [List.nodup_append]
    exact ⟨mn, by simp, fun z hz w hw e => by simp at hw; subst hw; subst e; exact hnew hz⟩
  · rcases List.mem_append.mp hz with hz | hz
    · exact (mN z hz).ext Ext.new (fun i hi => g z i hz hi) gK
    · simp at hz
      subst hz
      refine ⟨hNn, ?_, ?_⟩
      · rw [kx]
        exact ⟨n0, q, n1, K.1.new, (gK q 0 K.1).trans K.2.1, (gK q 1 K.1).trans K.2.2.1, hx⟩
      · rw [vx]; exact n2
  · have hk9 : ∀ z, z ∈ ns → kF F2 z ≠ kF F2 h.1 := fun z hz e => hno z hz (by rw [← gk z hz, e, kx])
    rcases List.mem_append.mp hp with hp | hp <;> rcases List.mem_append.mp hq with hq | hq
    · exact minj p q hp hq (by rw [← gk p hp, ← gk q hq]; exact e)
    · simp at hq; subst hq; exact absurd e (hk9 p hp)
    · simp at hp; subst hp; exact absurd e.symm (hk9 q hq)
    · simp at hp hq; rw [hp, hq]
  · by_cases eb : b = bi
    · subst eb
      simp only [if_true]
      refine ⟨e1, e2, e3, fun p => (e4 p).trans ⟨fun e => ?_, fun ⟨h1, h2⟩ => ?_⟩⟩
      · rcases e with e | e
        · have h9 := hmem b p hb9 e
          exact ⟨List.mem_append_left _ h9.1, by rw [gk p h9.1]; exact h9.2⟩
        · subst e
          exact ⟨by simp, by rw [kx]; exact hbi⟩
      · rcases List.mem_append.mp h1 with h1 | h1
        · rw [gk p h1] at h2
          exact Or.inl (((tB b hb9).2.2.2 p).mpr ⟨h1, h2⟩)
        · exact Or.inr (by simpa using h1)
    · simp only [if_neg eb]
      obtain ⟨b1, b2, b3, b4⟩ := tB b hb9
      refine ⟨(fr tb b (by omega) (fun e => eb e.2) (fun e => (hne9.2 tb (hmem bi tb hb e.1).1).2 rfl) (fun e => hne9.1 e.1) (fun e => (hne9.2 tb e.1).2 rfl)).trans b1, b2.congr Ext.new (fun z i hz hi => ?_), b3, fun p => (b4 p).trans ⟨fun ⟨h1, h2⟩ => ⟨List.mem_append_left _ h1, by rw [gk p h1]; exact h2⟩, fun ⟨h1, h2⟩ => ?_⟩⟩
      · have h9 := hmem b z hb9 hz
        exact fr z i (by have := hlt z h9.1; omega) (fun e => (hne9.2 z h9.1).2 e.1) (fun e => eb (h9.2.symm.trans (hmem bi z hb e.1).2)) (fun e => (hne9.2 z h9.1).1 e.1) (fun e => by omega)
      · rcases List.mem_append.mp h1 with h1 | h1
        · exact ⟨h1, by rw [← gk p h1]; exact h2⟩
        · simp at h1; subst h1
          rw [kx, hbi] at h2
          exact absurd h2.symm eb
  · unfold es
    rw [List.map_append]
    congr 1
    · exact List.map_congr_left fun z hz => by rw [gk z hz, gv z hz]
    · simp [kx, vx]
  · have hbm : b ≠ m := fun e => hP (Or.inl e)
    have hbn : b ∉ ns := fun e => hP (Or.inr (Or.inl e))
    funext i
    exact fr b i (by omega) (fun e => hP (Or.inr (Or.inr (Or.inl (by rw [e.1]; exact t1))))) (fun e => hbn (hmem bi b hb e.1).1) (fun e => hbm e.1) (fun e => hbn e.1)
  · rcases List.mem_append.mp hz with hz | hz
    · exact Or.inl hz
    · simp at hz; exact Or.inr (by omega)
theorem ReQ.step {h' : AH} (z : ReQ c s h F m ns k h') : ∃ (h2 : AH) (F2 : Nat → Nat → Value) (tb2 k2 : Nat) (ns2 : List Nat) (B2 : Nat → List Nat), h' = sF h2 F2 ∧ MapC h2 F2 m tb2 k2 ns2 B2 ∧ k2 ≤ k + 1 ∧ es F2 ns2 = es F ns ∧ MStep c s m h F ns k h2 F2 ns2 k2 ∧ F2 m 2 = F m 2 ∧ F2 m 3 = F m 3 := by
  obtain ⟨h2, F2, tb2, k2, ns2, B2, e0, M, e1, e2, e3, e4, e5, e6, e7, e8, e9⟩ := z
  exact ⟨h2, F2, tb2, k2, ns2, B2, e0, M, e2, e4, ⟨e5, ⟨e1, e3⟩, e6, MStep.mfp e7 (e8.imp id fun h9 => ⟨tb2, M.2.2.2.2.2.2.2.2.2.1, h9⟩) (fun i hi => e9 i (by omega))⟩, e9 2 (by decide), e9 3 (by decide)⟩
end PUT1
