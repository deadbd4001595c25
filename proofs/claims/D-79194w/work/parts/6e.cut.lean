/-! ===== search trees: a node leaves (plain) ===== -/
section CUT
variable {S : Nat → Prop} {key : Nat → Nat} {root : Nat} {L R P : Nat → Option Nat} {lo hi rk : Nat → Nat} {top M : Nat}
theorem T0.dbl (t : T0 S key root L R P lo hi rk top M) : T0 S (fun q => 2 * key q) root L R P (fun q => 2 * lo q - 1) (fun q => 2 * hi q) rk (2 * top) M :=
  ⟨t.1, fun p hp => by
    have := t.2 p hp
    refine ⟨?_, ?_, ?_, ?_, ?_⟩
    · dsimp only; omega
    · intro h; have := this.2.1 h; exact ⟨this.1, by dsimp only; omega, by dsimp only; omega⟩
    · intro q h; have := this.2.2.1 q h; exact ⟨this.1, this.2.1, by dsimp only; omega, by dsimp only; omega, this.2.2.2.2⟩
    · intro q h; have := this.2.2.2.1 q h; exact ⟨this.1, this.2.1, by dsimp only; omega, by dsimp only; omega, this.2.2.2.2⟩
    · exact this.2.2.2.2⟩
theorem T0.half {key2 : Nat → Nat} (t : T0 S key2 root L R P lo hi rk (2 * top) M) (e : ∀ z, S z → key2 z = 2 * key z) : T0 S key root L R P (fun q => (lo q + 1) / 2) (fun q => (hi q + 1) / 2) rk top M :=
  ⟨t.1, fun p hp => by
    have := t.2 p hp
    have ep := e p hp
    refine ⟨?_, ?_, ?_, ?_, ?_⟩
    · dsimp only; omega
    · intro h; have := this.2.1 h; exact ⟨this.1, by dsimp only; omega, by dsimp only; omega⟩
    · intro q h; have := this.2.2.1 q h; exact ⟨this.1, this.2.1, by dsimp only; omega, by dsimp only; omega, this.2.2.2.2⟩
    · intro q h; have := this.2.2.2.1 q h; exact ⟨this.1, this.2.1, by dsimp only; omega, by dsimp only; omega, this.2.2.2.2⟩
    · exact this.2.2.2.2⟩
theorem T0.hi_le (t : T0 S key root L R P lo hi rk top M) {p : Nat} (hp : S p) : hi p ≤ top := by
  obtain ⟨k, hk⟩ := Anc.top_ t _ p hp (Nat.le_refl _)
  have h1 := (Anc.mem t hp hk).2.2
  have h2 := ((t.2 root t.1.1).2.1 t.1.2).2.2
  omega
/-- p, without a right child, gives way to its left one -/
theorem T0.cutL (t : T0 S key root L R P lo hi rk top M) (hinj : ∀ a b, S a → S b → key a = key b → a = b) {p c : Nat} (hp : S p) (hl : L p = some c) (hr : R p = none) :
    T0 (fun z => S z ∧ z ≠ p) key (if P p = none then c else root) (chd L (P p) p c) (chd R (P p) p c) (upo P c (P p)) lo (fun q => if hi q = key p then hi p else hi q) rk top M := by
  have hle := t.hi_le hp
  obtain ⟨⟨t1, t2⟩, t3⟩ := t
  have tp := t3 p hp
  have tc := tp.2.2.1 c hl
  have tc2 := t3 c tc.1
  have inj : ∀ z, S z → key z = key p → z = p := fun z hz e => hinj z p hz hp e
  clear hinj
  refine ⟨?_, fun q hq => ?_⟩
  · grind [upo, chd]
  · have := t3 q hq.1
    refine ⟨?_, ?_, ?_, ?_, ?_⟩ <;> grind [upo, chd]
theorem T0.cutR (t : T0 S key root L R P lo hi rk top M) (hinj : ∀ a b, S a → S b → key a = key b → a = b) {p c : Nat} (hp : S p) (hl : L p = none) (hr : R p = some c) :
    T0 (fun z => S z ∧ z ≠ p) key (if P p = none then c else root) (chd L (P p) p c) (chd R (P p) p c) (upo P c (P p)) (fun q => if lo q = key p + 1 then lo p else lo q) hi rk top M := by
  have hle := t.hi_le hp
  obtain ⟨⟨t1, t2⟩, t3⟩ := t
  have tp := t3 p hp
  have tc := tp.2.2.2.1 c hr
  have tc2 := t3 c tc.1
  have inj : ∀ z, S z → key z = key p → z = p := fun z hz e => hinj z p hz hp e
  clear hinj
  refine ⟨?_, fun q hq => ?_⟩
  · grind [upo, chd]
  · have := t3 q hq.1
    refine ⟨?_, ?_, ?_, ?_, ?_⟩ <;> grind [upo, chd]
def chn (f : Nat → Option Nat) (o : Option Nat) (p : Nat) : Nat → Option Nat := fun b => if some b = o ∧ f b = some p then none else f b
theorem T0.leaf (t : T0 S key root L R P lo hi rk top M) {p z : Nat} (hp : S p) (hl : L p = none) (hr : R p = none) (hz : P p = some z) :
    T0 (fun z => S z ∧ z ≠ p) key root (chn L (P p) p) (chn R (P p) p) P lo hi rk top M := by
  obtain ⟨⟨t1, t2⟩, t3⟩ := t
  have tp := t3 p hp
  refine ⟨?_, fun q hq => ?_⟩
  · grind [chn]
  · have := t3 q hq.1
    refine ⟨?_, ?_, ?_, ?_, ?_⟩ <;> grind [chn]
/-- p and s change their places -/
def swz (p s : Nat) : Nat → Nat := fun z => if z = p then s else if z = s then p else z
theorem swz_inv (p s z : Nat) : swz p s (swz p s z) = z := by
  unfold swz
  grind
theorem T0.perm (t : T0 S key root L R P lo hi rk top M) {p s : Nat} (hp : S p) (hs : S s) :
    T0 S (fun z => key (swz p s z)) (swz p s root) (fun z => (L (swz p s z)).map (swz p s)) (fun z => (R (swz p s z)).map (swz p s)) (fun z => (P (swz p s z)).map (swz p s)) (fun z => lo (swz p s z)) (fun z => hi (swz p s z)) (fun z => rk (swz p s z)) top M := by
  have hS : ∀ z, S z → S (swz p s z) := fun z hz => by unfold swz; grind
  obtain ⟨⟨t1, t2⟩, t3⟩ := t
  refine ⟨⟨hS _ t1, by simp [swz_inv, t2]⟩, fun q hq => ?_⟩
  have tq := t3 _ (hS q hq)
  refine ⟨tq.1, fun h => ?_, fun q2 h => ?_, fun q2 h => ?_, fun q2 h => ?_⟩
  · have h1 := tq.2.1 (by simpa using h)
    exact ⟨by rw [← h1.1, swz_inv], h1.2⟩
  · obtain ⟨w, h1, rfl⟩ := Option.map_eq_some_iff.mp h
    have h2 := tq.2.2.1 w h1
    simp only [swz_inv]
    exact ⟨hS _ h2.1, by rw [h2.2.1]; simp [swz_inv], h2.2.2⟩
  · obtain ⟨w, h1, rfl⟩ := Option.map_eq_some_iff.mp h
    have h2 := tq.2.2.2.1 w h1
    simp only [swz_inv]
    exact ⟨hS _ h2.1, by rw [h2.2.1]; simp [swz_inv], h2.2.2⟩
  · obtain ⟨w, h1, rfl⟩ := Option.map_eq_some_iff.mp h
    have h2 := tq.2.2.2.2 w h1
    simp only [swz_inv]
    exact ⟨hS _ h2.1, h2.2.imp (fun e => by rw [e]; simp [swz_inv]) (fun e => by rw [e]; simp [swz_inv])⟩
theorem T0.bnd (t : T0 S key root L R P lo hi rk top M) : ∀ (n q : Nat), S q → rk q ≤ n → (lo q = 0 ∨ ∃ z, S z ∧ lo q = key z + 1) ∧ (hi q = top ∨ ∃ z, S z ∧ hi q = key z) := by
  intro n
  induction n with
  | zero =>
    intro q hq hn
    cases h : P q with
    | none => have := (t.2 q hq).2.1 h; exact ⟨Or.inl this.2.1, Or.inl this.2.2⟩
    | some z => have := t.up hq h; omega
  | succ n ih =>
    intro q hq hn
    cases h : P q with
    | none => have := (t.2 q hq).2.1 h; exact ⟨Or.inl this.2.1, Or.inl this.2.2⟩
    | some z =>
      obtain ⟨h1, h2, -, h3⟩ := t.up hq h
      have hz := ih z h1 (by omega)
      rcases h3 with h3 | h3
      · have := (t.2 z h1).2.2.1 q h3
        exact ⟨by rw [this.2.2.1]; exact hz.1, Or.inr ⟨z, h1, this.2.2.2.1⟩⟩
      · have := (t.2 z h1).2.2.2.1 q h3
        exact ⟨Or.inr ⟨z, h1, this.2.2.1⟩, by rw [this.2.2.2.1]; exact hz.2⟩
/-- other keys in the same order -/
theorem T0.rekey (t : T0 S key root L R P lo hi rk top M) (f : Nat → Nat) {top2 : Nat} (hf : ∀ a b, S a → S b → key a < key b → f (key a) < f (key b)) (ht : ∀ a, S a → f (key a) < top2) :
    T0 S (fun z => f (key z)) root L R P (fun q => if lo q = 0 then 0 else f (lo q - 1) + 1) (fun q => if hi q = top then top2 else f (hi q)) rk top2 M := by
  have hb := fun q hq => t.bnd _ q hq (Nat.le_refl _)
  have hk : ∀ q, S q → key q < top := fun q hq => by have := t.hi_le hq; have := t.2 q hq; omega
  refine ⟨t.1, fun q hq => ?_⟩
  have tq := t.2 q hq
  refine ⟨⟨?_, ?_, tq.1.2.2⟩, fun h => ?_, fun q2 h => ?_, fun q2 h => ?_, tq.2.2.2.2⟩
  · dsimp only
    rcases (hb q hq).1 with h | ⟨z, h1, h2⟩
    · rw [if_pos h]; exact Nat.zero_le _
    · rw [if_neg (by omega), h2, Nat.add_sub_cancel]
      exact hf z q h1 hq (by omega)
  · dsimp only
    rcases (hb q hq).2 with h | ⟨z, h1, h2⟩
    · rw [if_pos h]; exact ht q hq
    · have := hk z h1
      rw [if_neg (by omega), h2]
      exact hf q z hq h1 (by omega)
  · have := tq.2.1 h
    exact ⟨this.1, by dsimp only; rw [if_pos this.2.1], by dsimp only; rw [if_pos this.2.2]⟩
  · have := tq.2.2.1 q2 h
    refine ⟨this.1, this.2.1, by dsimp only; rw [this.2.2.1], ?_, this.2.2.2.2⟩
    dsimp only
    have h9 := hk q hq
    rw [this.2.2.2.1, if_neg (by omega)]
  · have := tq.2.2.2.1 q2 h
    refine ⟨this.1, this.2.1, ?_, by dsimp only; rw [this.2.2.2.1], this.2.2.2.2⟩
    dsimp only
    rw [this.2.2.1, if_neg (by omega), Nat.add_sub_cancel]
def swK (key : Nat → Nat) (p s : Nat) : Nat → Nat := fun q => if q = p then 2 * key s + 1 else 2 * key q
/-- p, with two children, changes places with the leftmost node s of its right part -/
theorem T0.swap (t : T0 S key root L R P lo hi rk top M) (hinj : ∀ a b, S a → S b → key a = key b → a = b) {p s : Nat} (hp : S p) (hs : S s) (hsl : L s = none) (hlo : lo s = key p + 1) :
    ∃ lo2 hi2 rk2, T0 S (swK key p s) (swz p s root) (fun z => (L (swz p s z)).map (swz p s)) (fun z => (R (swz p s z)).map (swz p s)) (fun z => (P (swz p s z)).map (swz p s)) lo2 hi2 rk2 (2 * top) M := by
  have hps : p ≠ s := by rintro rfl; have := t.2 p hp; omega
  have ts := t.2 s hs
  have hF : ∀ q, S q → key p < key q → key s ≤ key q := by
    intro q hq h1
    have tq := t.2 q hq
    rcases Nat.lt_or_ge (key q) (hi s) with h3 | h3
    · rcases t.down hs hq (by omega) h3 hinj with h | ⟨h, c, h4, -⟩ | ⟨h, -⟩
      · rw [h]; exact Nat.le_refl _
      · rw [hsl] at h4; cases h4
      · omega
    · omega
  have hk : ∀ q, S q → key q < top := fun q hq => by have := t.hi_le hq; have := t.2 q hq; omega
  have t2 := (t.perm hp hs).rekey (fun k => if k = key p then 2 * key s else if k = key s then 2 * key s + 1 else 2 * k) (top2 := 2 * top) ?_ ?_
  · refine ⟨_, _, _, t2.congrK fun z hz => ?_⟩
    have i1 := hinj z p hz hp
    have i2 := hinj z s hz hs
    unfold swK swz
    grind
  · intro a b ha hb hab
    have hSa : S (swz p s a) := by unfold swz; grind
    have hSb : S (swz p s b) := by unfold swz; grind
    generalize swz p s a = a' at *
    generalize swz p s b = b' at *
    have := hF a' hSa
    have := hF b' hSb
    have := hF s hs
    grind
  · intro a ha
    have hSa : S (swz p s a) := by unfold swz; grind
    generalize swz p s a = a' at *
    have := hk a' hSa
    have := hk s hs
    grind
end CUT
