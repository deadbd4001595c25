/-! ===== nodes replaced, other cells changed where Q ===== -/
def RepQ (Q : Nat → Nat → Prop) (l : Nat) (h : AH) (F : Nat → Nat → Value) (h2 : AH) (F2 : Nat → Nat → Value) (m : Nat) (ns : List Nat) (ρ : Nat → Nat) (a : List Nat) : Prop :=
  Ext h h2 ∧ (h2.1 = h.1 + a.length ∧ h2.2.1 = h.2.1 + l * a.length) ∧ (∀ p, p ∈ a → h.1 ≤ ρ p ∧ ρ p < h2.1) ∧ (∀ p, p ∉ a → ρ p = p) ∧ (∀ p q, p ∈ a → q ∈ a → ρ p = ρ q → p = q) ∧ LO F2 m (ns.map ρ) ∧ (∀ p, p ∈ a → ∀ j, j < 3 → F2 (ρ p) j = F p j) ∧
    ∀ b j, b < h.1 → ¬ Q b j → ¬ (b = m ∧ (j = 8 ∨ j = 9)) → ¬ (b ∈ ns ∧ (j = 4 ∨ j = 5)) → F2 b j = F b j
section REPQ
variable {Q Q2 : Nat → Nat → Prop} {h h1 h2 : AH} {F F1 F2 F3 : Nat → Nat → Value} {ρ ρ1 ρ2 : Nat → Nat} {l m p q : Nat} {ns a b : List Nat}
theorem RepQ.refl (lo : LO F m ns) : RepQ Q l h F h F m ns (fun z => z) [] :=
  ⟨Ext.refl, ⟨rfl, rfl⟩, fun _ h => (by cases h), fun _ _ => rfl, fun _ _ h => (by cases h), (by simpa using lo), fun _ h => (by cases h), fun _ _ _ _ _ _ => rfl⟩
theorem RepQ.ofR (R : RepR l h F1 h2 F2 m ns ρ a) (fr : FrP Q F F1) (ha : ∀ p, p ∈ a → ∀ j, j < 3 → ¬ Q p j) : RepQ Q l h F h2 F2 m ns ρ a := by
  obtain ⟨r1, r2, r3, r4, r5, r6, r7, r8⟩ := R
  exact ⟨r1, r2, r3, r4, r5, r6, fun p hp j hj => (r7 p hp j hj).trans (fr p j (ha p hp j hj)), fun b j hb hq h8 h4 => (r8 b j hb h8 h4).trans (fr b j hq)⟩
theorem RepQ.mono (R : RepQ Q l h F h2 F2 m ns ρ a) (hq : ∀ b j, Q b j → Q2 b j) : RepQ Q2 l h F h2 F2 m ns ρ a := by
  obtain ⟨r1, r2, r3, r4, r5, r6, r7, r8⟩ := R
  exact ⟨r1, r2, r3, r4, r5, r6, r7, fun b j hb h9 h8 h4 => r8 b j hb (fun h => h9 (hq b j h)) h8 h4⟩
/-- later changes that spare the order and the new nodes -/
theorem RepQ.fr (R : RepQ Q l h F h2 F2 m ns ρ a) (fr : FrP Q2 F2 F3) (hq : ∀ b j, b < h.1 → Q2 b j → Q b j) (hm : ¬ Q2 m 8 ∧ ¬ Q2 m 9) (hz : ∀ z, z ∈ ns → ¬ Q2 (ρ z) 4 ∧ ¬ Q2 (ρ z) 5) (ha : ∀ p, p ∈ a → ∀ j, j < 3 → ¬ Q2 (ρ p) j) : RepQ Q l h F h2 F3 m ns ρ a := by
  obtain ⟨r1, r2, r3, r4, r5, r6, r7, r8⟩ := R
  refine ⟨r1, r2, r3, r4, r5, r6.congr (fr m 8 hm.1) (fr m 9 hm.2) (fun z h9 => ?_) (fun z h9 => ?_), fun p hp j hj => (fr _ j (ha p hp j hj)).trans (r7 p hp j hj), fun b j hb h9 h8 h4 => (fr b j fun h => h9 (hq b j hb h)).trans (r8 b j hb h9 h8 h4)⟩
  · obtain ⟨w, hw, rfl⟩ := List.mem_map.mp h9
    exact fr _ 4 (hz w hw).1
  · obtain ⟨w, hw, rfl⟩ := List.mem_map.mp h9
    exact fr _ 5 (hz w hw).2
theorem RepQ.trans (R1 : RepQ Q l h F h1 F1 m ns ρ1 a) (R2 : RepQ Q2 l h1 F1 h2 F2 m (ns.map ρ1) ρ2 b) (hq : ∀ b j, b < h.1 → Q2 b j → Q b j) (hb : ∀ z, z ∈ b → z ∈ ns ∧ z ∉ a ∧ z < h.1) (ha : ∀ p, p ∈ a → p < h.1) (hsub : ∀ z, z ∈ a → z ∈ ns) (hns : ∀ z, z ∈ ns → z < h.1)
    (hm : m < h.1) (h3 : ∀ p, p ∈ a → ∀ j, j < 3 → ¬ Q2 (ρ1 p) j) (h3b : ∀ p, p ∈ b → ∀ j, j < 3 → ¬ Q p j) (hmn : m ∉ ns) : RepQ Q l h F h2 F2 m ns (fun z => ρ2 (ρ1 z)) (a ++ b) := by
  obtain ⟨r1, r2, r3, r4, r5, r6, r7, r8⟩ := R1
  obtain ⟨s1, s2, s3, s4, s5, s6, s7, s8⟩ := R2
  have hle := r1.1
  have hab : ∀ p, p ∈ a → ρ1 p ∉ b := fun p hp h9 => by have := (hb _ h9).2.2; have := r3 p hp; omega
  have hb1 : ∀ p, p ∈ b → ρ1 p = p := fun p hp => r4 p (hb p hp).2.1
  have hca : ∀ p, p ∈ a → ρ2 (ρ1 p) = ρ1 p := fun p hp => s4 _ (hab p hp)
  refine ⟨r1.trans s1, ⟨by rw [s2.1, r2.1, List.length_append]; omega, by rw [s2.2, r2.2, List.length_append, Nat.mul_add]; omega⟩, fun p hp => ?_, fun p hp => ?_, fun p q hp hq9 e => ?_, (by rw [List.map_map] at s6; exact s6), fun p hp j hj => ?_, fun z j hz h9 h8 h4 => ?_⟩
  · have hsl := s1.1
    rcases List.mem_append.mp hp with hp | hp
    · dsimp only
      rw [hca p hp]; have := r3 p hp; omega
    · dsimp only
      rw [hb1 p hp]; have := s3 p hp; omega
  · have h1 : p ∉ a ∧ p ∉ b := ⟨fun h => hp (List.mem_append_left _ h), fun h => hp (List.mem_append_right _ h)⟩
    dsimp only
    rw [r4 p h1.1, s4 p h1.2]
  · dsimp only at e
    rcases List.mem_append.mp hp with hp | hp <;> rcases List.mem_append.mp hq9 with hq9 | hq9
    · rw [hca p hp, hca q hq9] at e; exact r5 p q hp hq9 e
    · rw [hca p hp, hb1 q hq9] at e
      have := r3 p hp
      have := s3 q hq9
      omega
    · rw [hca q hq9, hb1 p hp] at e
      have := r3 q hq9
      have := s3 p hp
      omega
    · rw [hb1 p hp, hb1 q hq9] at e; exact s5 p q hp hq9 e
  · dsimp only
    rcases List.mem_append.mp hp with hp | hp
    · have h1 := r3 p hp
      rw [hca p hp, s8 _ j h1.2 (h3 p hp j hj) (fun h => by omega) (fun h => by omega)]
      exact r7 p hp j hj
    · have h1 := hb p hp
      rw [hb1 p hp, s7 p hp j hj]
      exact r8 p j h1.2.2 (h3b p hp j hj) (fun h => hmn (h.1 ▸ h1.1)) (fun h => by omega)
  · rw [s8 z j (by omega) (fun h => h9 (hq z j hz h)) h8 (fun h => ?_)]
    · exact r8 z j hz h9 h8 h4
    · obtain ⟨w, hw, rfl⟩ := List.mem_map.mp h.1
      by_cases hwa : w ∈ a
      · have := r3 w hwa; omega
      · rw [r4 w hwa] at h4
        exact h4 ⟨hw, h.2⟩
theorem RepQ.nodup (R : RepQ Q l h F h1 F1 m ns ρ a) (hn : ns.Nodup) (hlt : ∀ z, z ∈ ns → z < h.1) : (ns.map ρ).Nodup := by
  obtain ⟨-, -, r3, r4, r5, -⟩ := R
  rw [List.nodup_iff_pairwise_ne, List.pairwise_map]
  refine List.Pairwise.imp_of_mem (fun {x y} hx hy hxy => ?_) (List.nodup_iff_pairwise_ne.mp hn)
  intro e9
  have := hlt x hx
  have := hlt y hy
  by_cases hxa : x ∈ a
  · by_cases hya : y ∈ a
    · exact hxy (r5 x y hxa hya e9)
    · have := r3 x hxa
      rw [r4 y hya] at e9
      omega
  · rw [r4 x hxa] at e9
    by_cases hya : y ∈ a
    · have := r3 y hya
      omega
    · rw [r4 y hya] at e9
      exact hxy e9
end REPQ
