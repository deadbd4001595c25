/-! ===== the map without its counters ===== -/
def MapC (h : AH) (F : Nat → Nat → Value) (m tb k : Nat) (ns : List Nat) (B : Nat → List Nat) : Prop :=
  Is h m 12 12 ∧ F m 5 = .float 1061158912 ∧ F m 10 = .int 0 ∧ F m 11 = .int 0 ∧ LO F m ns ∧ ns.Nodup ∧ (∀ p, p ∈ ns → NodeR h F p) ∧ (∀ p q, p ∈ ns → q ∈ ns → kF F p = kF F q → p = q) ∧
    (VwR h F m 1 19 ∧ VwR h F m 6 15 ∧ VwR h F m 7 17) ∧ F m 0 = .ref tb ∧ TabR h F tb k ns B ∧ (1 ≤ k ∧ k ≤ 8) ∧ F m 4 = .int (Int32.ofNat (thr k))
/-- numbers and values, in the order of insertion -/
def es (F : Nat → Nat → Value) (ns : List Nat) : List (Nat × Nat) := ns.map fun p => (kF F p, vF F p)
/-- the cells of a map -/
def MFp (F : Nat → Nat → Value) (m : Nat) (ns : List Nat) (b : Nat) : Prop := b = m ∨ b ∈ ns ∨ F m 0 = .ref b ∨ F m 1 = .ref b ∨ F m 6 = .ref b ∨ F m 7 = .ref b
section MAPC
variable {h h2 : AH} {F F2 F3 : Nat → Nat → Value} {m tb k p q x v i w : Nat} {ns a b B : List Nat} {P : Nat → Prop} {Bs : Nat → List Nat}
theorem TBin.congr {κ κ2 : Nat → Nat} (t : TBin h F B κ) (e : Ext h h2) (hk : ∀ z, z ∈ B → κ2 z = κ z) (hf : ∀ z j, z ∈ B → (j = 3 ∨ j = 6 ∨ j = 7 ∨ j = 8 ∨ j = 9 ∨ j = 10) → F2 z j = F z j) : TBin h2 F2 B κ2 := by
  obtain ⟨dl, root, L, R, P, C, lo, hi, rk, M, t1, t2⟩ := t
  exact ⟨⟨ChE_congr (fun z hz => hf z 3 hz (by decide)) dl.1, PvE_congr (fun z hz => hf z 9 hz (by decide)) dl.2⟩, root, L, R, P, C, lo, hi, rk, M, t1.congrK hk, (t2.congr fun z j hz hj => hf z j hz (by omega)).ext e⟩
theorem BinR.congr (r : BinR h F B) (e : Ext h h2) (hf : ∀ z j, z ∈ B → (j = 0 ∨ j = 3 ∨ j = 6 ∨ j = 7 ∨ j = 8 ∨ j = 9 ∨ j = 10) → F2 z j = F z j) : BinR h2 F2 B := by
  rcases r with ⟨l1, l2⟩ | t
  · exact Or.inl ⟨fun p hp => (l1 p hp).ext e, ChE_congr (fun z hz => hf z 3 hz (by decide)) l2⟩
  · exact Or.inr (t.congr e (fun z hz => kF_congr (hf z 0 hz (by decide))) fun z j hz hj => hf z j hz (by omega))
theorem NK.ext (nk : NK h F p x) (e : Ext h h2) (h0 : F2 p 0 = F p 0) (h1 : F2 p 1 = F p 1) (hK : ∀ q j, Is h q 4 2 → F2 q j = F q j) : NK h2 F2 p x := by
  obtain ⟨e0, q, e1, k1, k2, k3, k4⟩ := nk
  exact ⟨h0.trans e0, q, h1.trans e1, k1.ext e, (hK q 0 k1).trans k2, (hK q 1 k1).trans k3, k4⟩
theorem NodeR.ext (r : NodeR h F p) (e : Ext h h2) (hf : ∀ j, j < 3 → F2 p j = F p j) (hK : ∀ q j, Is h q 4 2 → F2 q j = F q j) : NodeR h2 F2 p := by
  obtain ⟨r1, r2, r3⟩ := r
  refine ⟨r1.ext e, ?_, ?_⟩
  · rw [kF_congr (hf 0 (by decide))]
    exact r2.ext e (hf 0 (by decide)) (hf 1 (by decide)) hK
  · rw [vF_congr (hf 2 (by decide)), hf 2 (by decide)]
    exact r3
theorem VwR.ext (r : VwR h F m i k) (e : Ext h h2) (h1 : F2 m i = F m i) (h2' : ∀ v j, F m i = .ref v → F2 v j = F v j) : VwR h2 F2 m i k := by
  rcases r with r | ⟨v, r1, r2, r3, r4⟩
  · exact Or.inl (h1.trans r)
  · exact Or.inr ⟨v, h1.trans r1, r2.ext e, (h2' v 0 r1).trans r3, (h2' v 1 r1).trans r4⟩
theorem es_congr (hf : ∀ p, p ∈ ns → F2 p 0 = F p 0 ∧ F2 p 2 = F p 2) : es F2 ns = es F ns := List.map_congr_left fun p hp => by rw [kF_congr (hf p hp).1, vF_congr (hf p hp).2]
theorem MapC.tbl (M : MapC h F m tb k ns Bs) : Is h tb 36 (2 ^ k) := M.2.2.2.2.2.2.2.2.2.2.1.1
theorem MapC.ne (M : MapC h F m tb k ns Bs) : tb ≠ m ∧ (∀ z, z ∈ ns → z ≠ m ∧ z ≠ tb) := ⟨M.tbl.ne M.1 (by decide), fun z hz => ⟨(M.2.2.2.2.2.2.1 z hz).1.ne M.1 (by decide) (by decide), (M.2.2.2.2.2.2.1 z hz).1.ne M.tbl (by decide) (by decide)⟩⟩
theorem MapR.toC (M : MapR h F m ns) (h0 : F m 0 = .ref tb) : ∃ k Bs, MapC h F m tb k ns Bs ∧ ns.length ≤ thr k := by
  obtain ⟨m1, m2, m3, m5, m10, m11, mlo, mn, mN, minj, mv, mt⟩ := M
  rcases mt with ⟨t1, -⟩ | ⟨tb2, k, B, t1, t2, t3, t4, t5⟩
  · rw [h0] at t1; cases t1
  · have : tb2 = tb := by rw [h0] at t1; cases t1; rfl
    subst this
    exact ⟨k, B, ⟨m1, m5, m10, m11, mlo, mn, mN, minj, mv, t1, t2, t3, t4⟩, t5⟩
theorem MapC.toR (M : MapC h F m tb k ns Bs) (h2 : F m 2 = .int (Int32.ofNat ns.length)) (h3 : ∃ z : Int32, F m 3 = .int z) (hl : ns.length ≤ thr k) : MapR h F m ns := by
  obtain ⟨m1, m5, m10, m11, mlo, mn, mN, minj, mv, t1, t2, t3, t4⟩ := M
  exact ⟨m1, h2, h3, m5, m10, m11, mlo, mn, mN, minj, mv, Or.inr ⟨tb, k, Bs, t1, t2, t3, t4, hl⟩⟩
/-- fields 2 and 3 of the map don't matter -/
theorem MapC.cnt {v : Value} (M : MapC h F m tb k ns Bs) (hi : i = 2 ∨ i = 3) : MapC h (updF F m i v) m tb k ns Bs := by
  have hne := M.ne
  obtain ⟨m1, m5, m10, m11, mlo, mn, mN, minj, mv, t1, ⟨t2, t2'⟩, t3, t4⟩ := M
  have hz : ∀ z j, z ∈ ns → updF F m i v z j = F z j := fun z j hz => updF_a (hne.2 z hz).1 rfl
  have hm : ∀ j, j ≠ 2 ∧ j ≠ 3 → updF F m i v m j = F m j := fun j hj => updF_i (by omega) rfl
  have hkz : ∀ z, z ∈ ns → kF (updF F m i v) z = kF F z := fun z h => kF_congr (hz z 0 h)
  refine ⟨m1, (hm 5 (by decide)).trans m5, (hm 10 (by decide)).trans m10, (hm 11 (by decide)).trans m11, mlo.congr (hm 8 (by decide)) (hm 9 (by decide)) (fun z h => hz z 4 h) (fun z h => hz z 5 h), mn, fun p hp => (mN p hp).ext Ext.refl (fun j _ => hz p j hp) (fun q j hq => updF_a (hq.ne m1 (by decide)) rfl), fun p q hp hq e => minj p q hp hq (by rw [← hkz p hp, ← hkz q hq]; exact e), ?_, (hm 0 (by decide)).trans t1, ⟨t2, fun b hb => ?_⟩, t3, (hm 4 (by decide)).trans t4⟩
  · exact ⟨mv.1.ext Ext.refl (hm 1 (by decide)) (fun v9 j h9 => updF_a (by rcases mv.1 with h8 | ⟨v8, h8, h7, -⟩; rw [h8] at h9; cases h9; rw [h8] at h9; cases h9; exact h7.ne m1 (by decide)) rfl), mv.2.1.ext Ext.refl (hm 6 (by decide)) (fun v9 j h9 => updF_a (by rcases mv.2.1 with h8 | ⟨v8, h8, h7, -⟩; rw [h8] at h9; cases h9; rw [h8] at h9; cases h9; exact h7.ne m1 (by decide)) rfl), mv.2.2.ext Ext.refl (hm 7 (by decide)) (fun v9 j h9 => updF_a (by rcases mv.2.2 with h8 | ⟨v8, h8, h7, -⟩; rw [h8] at h9; cases h9; rw [h8] at h9; cases h9; exact h7.ne m1 (by decide)) rfl)⟩
  · obtain ⟨b1, b2, b3, b4⟩ := t2' b hb
    refine ⟨(updF_a hne.1 rfl).trans b1, b2.congr Ext.refl (fun z j hz' _ => hz z j ((b4 z).mp hz').1), b3, fun p => (b4 p).trans ⟨fun h => ⟨h.1, by rw [hkz p h.1]; exact h.2⟩, fun h => ⟨h.1, by rw [← hkz p h.1]; exact h.2⟩⟩⟩
end MAPC
