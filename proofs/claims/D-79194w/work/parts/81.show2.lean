/-! ===== the show: instructions in the map and in the model (plain) ===== -/
section SHOW2
variable {G : GG} {h h2 h3 : AH} {F F2 F3 : Nat → Nat → Value} {s c k i p : Nat} {A : SA} {f g : Nat → Int32} {O O2 P : Nat → Prop}
theorem ShowR.key (S : ShowR G h F O s A f g) (hp : p ∈ A.ns) : kF F p < 1200 := by
  obtain ⟨-, ⟨-, q, -, K⟩, -⟩ := S.im.2.2.2.2.2.2.2.2.1 p hp
  exact K.2.2.2
theorem ShowR.inj (S : ShowR G h F O s A f g) {q : Nat} (hp : p ∈ A.ns) (hq : q ∈ A.ns) (e : kF F p = kF F q) : p = q := S.im.2.2.2.2.2.2.2.2.2.1 p q hp hq e
theorem ShowR.nd (S : ShowR G h F O s A f g) : A.ns.Nodup := S.im.2.2.2.2.2.2.2.1
theorem nd_ix {xs : List Nat} (hn : xs.Nodup) {i j x : Nat} (hi : xs[i]? = some x) (hj : xs[j]? = some x) : i = j := by
  obtain ⟨h1, e1⟩ := List.getElem?_eq_some_iff.mp hi
  obtain ⟨h2, e2⟩ := List.getElem?_eq_some_iff.mp hj
  rcases Nat.lt_trichotomy i j with hl | hl | hl
  · exact absurd (e1.trans e2.symm) (List.pairwise_iff_getElem.mp hn i j h1 h2 hl)
  · exact hl
  · exact absurd (e2.trans e1.symm) (List.pairwise_iff_getElem.mp hn j i h2 h1 hl)
/-- the model finds what the map holds -/
theorem ShowR.gv_is (S : ShowR G h F O s A f g) (hi : A.ns[i]? = some p) : gv f (Int32.ofNat (kF F p / 12)) (Int32.ofNat (kF F p % 12)) = some i := by
  have hp := List.mem_of_getElem? hi
  have hk := S.key hp
  have hlt := (List.getElem?_eq_some_iff.mp hi).1
  obtain ⟨i1, i2, -⟩ := S.ins i p hi
  cases e : gv f (Int32.ofNat (kF F p / 12)) (Int32.ofNat (kF F p % 12)) with
  | none => exact absurd ⟨i1, i2⟩ (gv_none e i (by rw [S.ni]; exact hlt))
  | some j =>
    obtain ⟨j1, j2, j3⟩ := gv_some e
    rw [S.ni] at j1
    obtain ⟨q, hq⟩ : ∃ q, A.ns[j]? = some q := ⟨_, List.getElem?_eq_getElem j1⟩
    have hqm := List.mem_of_getElem? hq
    have hk2 := S.key hqm
    obtain ⟨k1, k2, -⟩ := S.ins j q hq
    rw [k1, iN_eq (by omega) (by omega)] at j2
    rw [k2, iN_eq (by omega) (by omega)] at j3
    have := S.inj hqm hp (by omega)
    subst this
    rw [nd_ix S.nd hq hi]
theorem ShowR.gv_at (S : ShowR G h F O s A f g) {n : Nat} (hc : c < 12) (hn : n < 100) (hp : p ∈ A.ns) (e : kF F p = 12 * n + c) : ∃ i, A.ns[i]? = some p ∧ gv f (Int32.ofNat n) (Int32.ofNat c) = some i := by
  obtain ⟨i, hi⟩ := List.mem_iff_getElem?.mp hp
  have := S.gv_is hi
  rw [e, show (12 * n + c) / 12 = n by omega, show (12 * n + c) % 12 = c by omega] at this
  exact ⟨i, hi, this⟩
theorem ShowR.gv_no (S : ShowR G h F O s A f g) {n : Nat} (hc : c < 12) (hn : n < 100) (e : ∀ p, p ∈ A.ns → kF F p ≠ 12 * n + c) : gv f (Int32.ofNat n) (Int32.ofNat c) = none := by
  cases e2 : gv f (Int32.ofNat n) (Int32.ofNat c) with
  | none => rfl
  | some j =>
    obtain ⟨j1, j2, j3⟩ := gv_some e2
    rw [S.ni] at j1
    obtain ⟨q, hq⟩ : ∃ q, A.ns[j]? = some q := ⟨_, List.getElem?_eq_getElem j1⟩
    have hqm := List.mem_of_getElem? hq
    have hk2 := S.key hqm
    obtain ⟨k1, k2, -⟩ := S.ins j q hq
    rw [k1, iN_eq (by omega) (by omega)] at j2
    rw [k2, iN_eq (by omega) (by omega)] at j3
    exact absurd (by omega) (e q hqm)
/-- a cue's number -/
theorem ShowR.num (S : ShowR G h F O s A f g) {a : Nat} (hk : A.cs[k]? = some a) : ∃ n, 1 ≤ n ∧ n < 100 ∧ f (18 + 12 * k) = Int32.ofNat n := by
  have := (S.cue k a hk).2.1
  exact ⟨u (f (18 + 12 * k)), this.1, by omega, (u_self _).symm⟩
theorem ShowR.cu (S : ShowR G h F O s A f g) (hk : k < u (f 0)) : ∃ a, A.cs[k]? = some a := ⟨_, List.getElem?_eq_getElem (by have := S.nc; omega)⟩
/-- what at answers -/
def AtQ (h : AH) (F : Nat → Nat → Value) (A : SA) (f : Nat → Int32) (k c : Nat) (o : Option Nat) : Prop :=
  (o = none → gv f (f (18 + 12 * k)) (Int32.ofNat c) = none) ∧ ∀ t, o = some t → ∃ i p, gv f (f (18 + 12 * k)) (Int32.ofNat c) = some i ∧ A.ns[i]? = some p ∧ t = vF F p ∧ TldR h F t (f (162 + 4 * i + 2)) (f (162 + 4 * i + 3))
theorem ShowR.atR (S : ShowR G h F O s A f g) {a n : Nat} (hk : A.cs[k]? = some a) (hn : f (18 + 12 * k) = Int32.ofNat n) (hc : c < 12) (hn2 : n < 100) {r : RR} (e : (∃ p, p ∈ A.ns ∧ kF F p = 12 * n + c ∧ r = .inl (some (.ref (vF F p)))) ∨ (∀ p, p ∈ A.ns → kF F p ≠ 12 * n + c) ∧ r = .inl (some .null)) :
    ∃ o, r = .inl (some (va_rf o)) ∧ AtQ h F A f k c o := by
  rcases e with ⟨p, e1, e2, e3⟩ | ⟨e1, e2⟩
  · obtain ⟨i, hi, hg⟩ := S.gv_at hc hn2 e1 e2
    refine ⟨some (vF F p), e3, ⟨fun e => by (cases e), fun t et => ?_⟩⟩
    cases et
    exact ⟨i, p, by rw [hn]; exact hg, hi, rfl, (S.ins i p hi).2.2⟩
  · exact ⟨none, e2, ⟨fun _ => by rw [hn]; exact S.gv_no hc hn2 e1, fun t et => by cases et⟩⟩
/-- the level that an instruction tells -/
def toldL (f : Nat → Int32) (i c : Nat) : Int32 := if f (162 + 4 * i + 2) = -1 then f (6 + c) else f (162 + 4 * i + 2)
theorem lvS_some {l : Int32} (e : gv f (f (18 + 12 * k)) (Int32.ofNat c) = some i) : lvS f c k l = toldL f i c := by unfold lvS toldL; rw [e]
theorem lvS_none {l : Int32} (e : gv f (f (18 + 12 * k)) (Int32.ofNat c) = none) : lvS f c k l = if isBl f k then f (6 + c) else l := by unfold lvS; rw [e]
theorem lvN_s (f : Nat → Int32) (c k : Nat) : lvN f c (k + 1) = lvS f c k (lvN f c k) := rfl
/-- the present number of a cue's place -/
theorem ShowR.nlt (S : ShowR G h F O s A f g) : u (f 0) ≤ 12 := by have := S.nc; have := S.nc2; omega
end SHOW2
