/-! ===== search trees by local conditions (plain) ===== -/
section TREES
def upo {α : Type} (f : Nat → α) (a : Nat) (v : α) : Nat → α := fun b => if b = a then v else f b
/-- a search tree by local conditions -/
def T0 (S : Nat → Prop) (key : Nat → Nat) (root : Nat) (L R P : Nat → Option Nat) (lo hi rk : Nat → Nat) (top M : Nat) : Prop :=
  (S root ∧ P root = none) ∧ ∀ p, S p → (lo p ≤ key p ∧ key p < hi p ∧ rk p ≤ M) ∧ (P p = none → p = root ∧ lo p = 0 ∧ hi p = top) ∧
    (∀ q, L p = some q → S q ∧ P q = some p ∧ lo q = lo p ∧ hi q = key p ∧ rk p < rk q) ∧ (∀ q, R p = some q → S q ∧ P q = some p ∧ lo q = key p + 1 ∧ hi q = hi p ∧ rk p < rk q) ∧ (∀ q, P p = some q → S q ∧ (L q = some p ∨ R q = some p))
def upq (f : Nat → Option Nat) (o : Option Nat) (v : Option Nat) : Nat → Option Nat := fun b => if some b = o then v else f b
def chd (f : Nat → Option Nat) (o : Option Nat) (p r : Nat) : Nat → Option Nat := fun b => if some b = o ∧ f b = some p then some r else f b
theorem rotL {S : Nat → Prop} {key : Nat → Nat} {root p r : Nat} {L R P : Nat → Option Nat} {lo hi rk : Nat → Nat} {top M : Nat} (t : T0 S key root L R P lo hi rk top M) (hp : S p) (hr : R p = some r) :
    T0 S key (if P p = none then r else root) (upo (chd L (P p) p r) r (some p)) (upo (chd R (P p) p r) p (L r)) (upo (upo (upq P (L r) (some p)) r (P p)) p (some r)) (upo lo r (lo p)) (upo hi p (key r)) (fun q => if q = r then 2 * rk p + 1 else 2 * rk q + 2) top (2 * M + 2) := by
  obtain ⟨⟨t1, t2⟩, t3⟩ := t
  have hr0 := (t3 p hp).2.2.2.1 r hr
  have hpr : p ≠ r := by intro e; subst e; omega
  have key1 := t3 r hr0.1
  refine ⟨?_, fun q hq => ?_⟩
  · grind [upo, upq, chd]
  · have := t3 q hq
    refine ⟨?_, ?_, ?_, ?_, ?_⟩
    · grind [upo, upq, chd]
    · grind [upo, upq, chd]
    · grind [upo, upq, chd]
    · grind [upo, upq, chd]
    · grind [upo, upq, chd]
theorem rotR {S : Nat → Prop} {key : Nat → Nat} {root p l : Nat} {L R P : Nat → Option Nat} {lo hi rk : Nat → Nat} {top M : Nat} (t : T0 S key root L R P lo hi rk top M) (hp : S p) (hl : L p = some l) :
    T0 S key (if P p = none then l else root) (upo (chd L (P p) p l) p (R l)) (upo (chd R (P p) p l) l (some p)) (upo (upo (upq P (R l) (some p)) l (P p)) p (some l)) (upo lo p (key l + 1)) (upo hi l (hi p)) (fun q => if q = l then 2 * rk p + 1 else 2 * rk q + 2) top (2 * M + 2) := by
  obtain ⟨⟨t1, t2⟩, t3⟩ := t
  have hr0 := (t3 p hp).2.2.1 l hl
  have hpr : p ≠ l := by intro e; subst e; omega
  have key1 := t3 l hr0.1
  refine ⟨?_, fun q hq => ?_⟩
  · grind [upo, upq, chd]
  · have := t3 q hq
    refine ⟨?_, ?_, ?_, ?_, ?_⟩
    · grind [upo, upq, chd]
    · grind [upo, upq, chd]
    · grind [upo, upq, chd]
    · grind [upo, upq, chd]
    · grind [upo, upq, chd]
/-- a node stands below another one, or is it -/
def Anc (P : Nat → Option Nat) (p : Nat) : Nat → Nat → Prop
  | 0, q => p = q
  | k + 1, q => ∃ z, P q = some z ∧ Anc P p k z
variable {S : Nat → Prop} {key : Nat → Nat} {root : Nat} {L R P : Nat → Option Nat} {lo hi rk : Nat → Nat} {top M : Nat}
theorem Anc.mem (t : T0 S key root L R P lo hi rk top M) : ∀ {k p q : Nat}, S q → Anc P p k q → S p ∧ lo p ≤ lo q ∧ hi q ≤ hi p
  | 0, p, q, hq, h => by cases h; exact ⟨hq, Nat.le_refl _, Nat.le_refl _⟩
  | k + 1, p, q, hq, ⟨z, h1, h2⟩ => by
    have hz := ((t.2 q hq).2.2.2.2 z h1)
    obtain ⟨a, b, c⟩ := Anc.mem t hz.1 h2
    have tz := t.2 z hz.1
    have := t.2 q hq
    refine ⟨a, ?_, ?_⟩ <;> grind
/-- the child on the way down -/
theorem Anc.child : ∀ {k p q : Nat}, Anc P p (k + 1) q → ∃ c, P c = some p ∧ Anc P c k q
  | 0, p, q, ⟨z, h1, h2⟩ => by cases h2; exact ⟨q, h1, rfl⟩
  | k + 1, p, q, ⟨z, h1, h2⟩ => by
    obtain ⟨c, h3, h4⟩ := Anc.child h2
    exact ⟨c, h3, z, h1, h4⟩
theorem Anc.up : ∀ {k p q r : Nat}, Anc P p k q → P p = some r → Anc P r (k + 1) q
  | 0, p, q, r, h, h1 => by cases h; exact ⟨r, h1, rfl⟩
  | k + 1, p, q, r, ⟨z, h2, h3⟩, h1 => ⟨z, h2, Anc.up h3 h1⟩
theorem Anc.top_ (t : T0 S key root L R P lo hi rk top M) : ∀ (n q : Nat), S q → rk q ≤ n → ∃ k, Anc P root k q := by
  intro n
  induction n with
  | zero =>
    intro q hq hn
    cases h : P q with
    | none => exact ⟨0, ((t.2 q hq).2.1 h).1.symm⟩
    | some z =>
      have hz := ((t.2 q hq).2.2.2.2 z h)
      have tz := t.2 z hz.1
      grind
  | succ n ih =>
    intro q hq hn
    cases h : P q with
    | none => exact ⟨0, ((t.2 q hq).2.1 h).1.symm⟩
    | some z =>
      have hz := ((t.2 q hq).2.2.2.2 z h)
      have tz := t.2 z hz.1
      obtain ⟨k, hk⟩ := ih z hz.1 (by grind)
      exact ⟨k + 1, z, h, hk⟩
/-- who has the key in its interval stands above -/
theorem Anc.of (t : T0 S key root L R P lo hi rk top M) {q : Nat} (hq : S q) : ∀ (n p : Nat), S p → rk p ≤ n → lo p ≤ key q → key q < hi p → ∃ k, Anc P p k q := by
  intro n
  induction n with
  | zero =>
    intro p hp hn h1 h2
    cases h : P p with
    | none => rw [((t.2 p hp).2.1 h).1]; exact Anc.top_ t _ q hq (Nat.le_refl _)
    | some z =>
      have hz := ((t.2 p hp).2.2.2.2 z h)
      have tz := t.2 z hz.1
      grind
  | succ n ih =>
    intro p hp hn h1 h2
    cases h : P p with
    | none => rw [((t.2 p hp).2.1 h).1]; exact Anc.top_ t _ q hq (Nat.le_refl _)
    | some z =>
      have hz := ((t.2 p hp).2.2.2.2 z h)
      have tz := t.2 z hz.1
      have tp := t.2 p hp
      obtain ⟨k, hk⟩ := ih z hz.1 (by grind) (by grind) (by grind)
      cases k with
      | zero => cases hk; grind
      | succ k =>
        obtain ⟨c, h3, h4⟩ := Anc.child hk
        obtain ⟨hc, h5, h6⟩ := Anc.mem t hq h4
        have tc := t.2 c hc
        have tq := t.2 q hq
        have : c = p := by grind
        exact ⟨k, this ▸ h4⟩
/-- the way down from p to the key of q -/
theorem T0.down (t : T0 S key root L R P lo hi rk top M) {p q : Nat} (hp : S p) (hq : S q) (h1 : lo p ≤ key q) (h2 : key q < hi p) (hinj : ∀ a b, S a → S b → key a = key b → a = b) :
    p = q ∨ (key q < key p ∧ ∃ c, L p = some c ∧ lo c ≤ key q ∧ key q < hi c) ∨ (key p < key q ∧ ∃ c, R p = some c ∧ lo c ≤ key q ∧ key q < hi c) := by
  obtain ⟨k, hk⟩ := Anc.of t hq _ p hp (Nat.le_refl _) h1 h2
  cases k with
  | zero => exact Or.inl hk
  | succ k =>
    obtain ⟨c, h3, h4⟩ := Anc.child hk
    obtain ⟨hc, h5, h6⟩ := Anc.mem t hq h4
    have tc := t.2 c hc
    have tp := t.2 p hp
    have tq := t.2 q hq
    grind
theorem T0.up (t : T0 S key root L R P lo hi rk top M) {x xp : Nat} (hx : S x) (h : P x = some xp) : S xp ∧ rk xp < rk x ∧ x ≠ xp ∧ (L xp = some x ∨ R xp = some x) := by
  have h1 := (t.2 x hx).2.2.2.2 _ h
  have h2 := t.2 xp h1.1
  have h3 : rk xp < rk x := h1.2.elim (fun e => (h2.2.2.1 _ e).2.2.2.2) (fun e => (h2.2.2.2.1 _ e).2.2.2.2)
  exact ⟨h1.1, h3, fun e => by subst e; omega, h1.2⟩
theorem T0.sib (t : T0 S key root L R P lo hi rk top M) {p x z : Nat} (hp : S p) (h1 : L p = some x) (h2 : R p = some z) : x ≠ z := fun e => by
  subst e
  have h3 := (t.2 p hp).2.2.1 _ h1
  have h4 := (t.2 p hp).2.2.2.1 _ h2
  have h5 := t.2 x h3.1
  omega
theorem T0.lc (t : T0 S key root L R P lo hi rk top M) {p c : Nat} (hp : S p) (h : L p = some c) : S c ∧ P c = some p ∧ rk p < rk c ∧ c ≠ p := by
  have h1 := (t.2 p hp).2.2.1 _ h
  exact ⟨h1.1, h1.2.1, h1.2.2.2.2, fun e => by subst e; omega⟩
theorem T0.rc (t : T0 S key root L R P lo hi rk top M) {p c : Nat} (hp : S p) (h : R p = some c) : S c ∧ P c = some p ∧ rk p < rk c ∧ c ≠ p := by
  have h1 := (t.2 p hp).2.2.2.1 _ h
  exact ⟨h1.1, h1.2.1, h1.2.2.2.2, fun e => by subst e; omega⟩
theorem T0.insL (t : T0 S key root L R P lo hi rk top M) {x xp : Nat} (hp : S xp) (hx : ¬ S x) (hl : L xp = none) (h1 : lo xp ≤ key x) (h2 : key x < key xp) :
    T0 (fun z => S z ∨ z = x) key root (upo (upo L x none) xp (some x)) (upo R x none) (upo P x (some xp)) (upo lo x (lo xp)) (upo hi x (key xp)) (upo rk x (rk xp + 1)) top (M + 1) := by
  obtain ⟨⟨t1, t2⟩, t3⟩ := t
  have hne : x ≠ xp := fun e => hx (e ▸ hp)
  have hxp := t3 xp hp
  refine ⟨?_, fun q hq => ?_⟩
  · grind [upo]
  · by_cases e : q = x
    · subst e
      refine ⟨?_, ?_, ?_, ?_, ?_⟩ <;> grind [upo]
    · have hq2 : S q := hq.resolve_right e
      have := t3 q hq2
      refine ⟨?_, ?_, ?_, ?_, ?_⟩ <;> grind [upo]
theorem T0.insR (t : T0 S key root L R P lo hi rk top M) {x xp : Nat} (hp : S xp) (hx : ¬ S x) (hl : R xp = none) (h1 : key xp < key x) (h2 : key x < hi xp) :
    T0 (fun z => S z ∨ z = x) key root (upo L x none) (upo (upo R x none) xp (some x)) (upo P x (some xp)) (upo lo x (key xp + 1)) (upo hi x (hi xp)) (upo rk x (rk xp + 1)) top (M + 1) := by
  obtain ⟨⟨t1, t2⟩, t3⟩ := t
  have hne : x ≠ xp := fun e => hx (e ▸ hp)
  have hxp := t3 xp hp
  refine ⟨?_, fun q hq => ?_⟩
  · grind [upo]
  · by_cases e : q = x
    · subst e
      refine ⟨?_, ?_, ?_, ?_, ?_⟩ <;> grind [upo]
    · have hq2 : S q := hq.resolve_right e
      have := t3 q hq2
      refine ⟨?_, ?_, ?_, ?_, ?_⟩ <;> grind [upo]
theorem T0.one (x : Nat) (h : key x < top) : T0 (fun z => z = x) key x (fun _ => none) (fun _ => none) (fun _ => none) (fun _ => 0) (fun _ => top) (fun _ => 0) top 0 :=
  ⟨⟨rfl, rfl⟩, fun p hp => by subst hp; exact ⟨⟨Nat.zero_le _, h, Nat.le_refl _⟩, fun _ => ⟨rfl, rfl, rfl⟩, (fun q e => by cases e), (fun q e => by cases e), fun q e => by cases e⟩⟩
theorem T0.congrS {S2 : Nat → Prop} (t : T0 S key root L R P lo hi rk top M) (e : ∀ z, S z ↔ S2 z) : T0 S2 key root L R P lo hi rk top M := by
  have : S = S2 := funext fun z => propext (e z)
  rw [← this]
  exact t
theorem T0.congrK {key2 : Nat → Nat} (t : T0 S key root L R P lo hi rk top M) (e : ∀ z, S z → key2 z = key z) : T0 S key2 root L R P lo hi rk top M :=
  ⟨t.1, fun p hp => by
    have := t.2 p hp
    rw [← e p hp] at this
    exact this⟩
end TREES
