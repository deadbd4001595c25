/-! ===== all instructions of a cue go (plain) ===== -/
section RMSHOW
variable {G : GG} {h h2 : AH} {F F2 : Nat → Nat → Value} {s n k2 cc ss : Nat} {A : SA} {f g : Nat → Int32} {O : Nat → Prop} {ns2 : List Nat}
theorem filt_rel {α β : Type} {p : α → Bool} {q : β → Bool} {rel : α → β → Prop} (hpq : ∀ a b, rel a b → p a = q b) : ∀ {E : List α} {R : List β}, E.length = R.length → (∀ (i : Nat) (a : α) (b : β), E[i]? = some a → R[i]? = some b → rel a b) →
    (E.filter p).length = (R.filter q).length ∧ ∀ (i : Nat) (a : α) (b : β), (E.filter p)[i]? = some a → (R.filter q)[i]? = some b → rel a b
  | [], [], _, _ => ⟨rfl, fun i a b h => by simp at h⟩
  | [], _ :: _, h, _ => by simp at h
  | _ :: _, [], h, _ => by simp at h
  | x :: E, y :: R, hl, hr => by
    have h0 := hr 0 x y rfl rfl
    obtain ⟨i1, i2⟩ := filt_rel (E := E) (R := R) hpq (by simpa using hl) (fun i a b ha hb => hr (i + 1) a b (by simpa using ha) (by simpa using hb))
    have e := hpq x y h0
    cases hq : q y with
    | false =>
      rw [List.filter_cons_of_neg (by rw [e, hq]; decide), List.filter_cons_of_neg (by rw [hq]; decide)]
      exact ⟨i1, i2⟩
    | true =>
      rw [List.filter_cons_of_pos (by rw [e, hq]), List.filter_cons_of_pos (by rw [hq])]
      refine ⟨by simp [i1], fun i a b ha hb => ?_⟩
      cases i with
      | zero =>
        simp at ha hb
        subst ha hb
        exact h0
      | succ i => exact i2 i a b (by simpa using ha) (by simpa using hb)
/-- the entry of the map and the row of the model -/
def RelE (h : AH) (F : Nat → Nat → Value) (e : Nat × Nat) (r : Int32 × Int32 × Int32 × Int32) : Prop := e.1 < 1200 ∧ r.1 = Int32.ofNat (e.1 / 12) ∧ r.2.1 = Int32.ofNat (e.1 % 12) ∧ TldR h F e.2 r.2.2.1 r.2.2.2
theorem ShowR.relE (S : ShowR G h F O s A f g) : (es F A.ns).length = (rows f).length ∧ ∀ (i : Nat) (a : Nat × Nat) (b : Int32 × Int32 × Int32 × Int32), (es F A.ns)[i]? = some a → (rows f)[i]? = some b → RelE h F a b := by
  refine ⟨by rw [S.esn]; simp [rows], fun i a b ha hb => ?_⟩
  have I := S.insE ha
  rw [rows_get] at hb
  split at hb
  · cases hb
    obtain ⟨p, hp, rfl⟩ := es_get.mp ha
    exact ⟨S.key (List.mem_of_getElem? hp), I⟩
  · cases hb
theorem rmg_len {cue : Int32} : ∀ {k : Nat} {f : Nat → Int32}, u (f 1) ≤ 75 → u (rmg cue k f 1) ≤ u (f 1)
  | 0, f, _ => Nat.le_refl _
  | k + 1, f, h => by
    unfold rmg
    split
    · have h1 := tkF_1v (f := f) (k := k) h
      have := rmg_len (cue := cue) (k := k) (f := tkF f k) (by omega)
      omega
    · exact rmg_len h
/-- the map with the other entries -/
theorem ShowR.rmAll (S : ShowR G h F O s A f g) (hn : n < 100) (M2 : MapR h2 F2 A.im ns2) (t2 : TK h2 F2 A.im k2) (st : MStep cc ss A.im h F A.ns A.ks h2 F2 ns2 k2) (e2 : es F2 ns2 = (es F A.ns).filter fun e => !decide (e.1 / 12 = n)) :
    ShowR G h2 F2 (fun b => O b ∨ h.1 ≤ b) s (A.wm ns2 k2) (rmg (Int32.ofNat n) (u (f 1)) f) g := by
  obtain ⟨r1, r2⟩ := S.relE
  have h75 : u (f 1) ≤ 75 := by have := S.ni; have := S.ni2; omega
  obtain ⟨f1, f2⟩ := filt_rel (p := fun e : Nat × Nat => !decide (e.1 / 12 = n)) (q := fun r : Int32 × Int32 × Int32 × Int32 => !decide (r.1 = Int32.ofNat n)) (rel := RelE h F) (fun a b hab => by
    obtain ⟨a1, a2, -, -⟩ := hab
    have : (a.1 / 12 = n) ↔ (b.1 = Int32.ofNat n) := by
      rw [a2]
      exact (iN_eq (by omega) (by omega)).symm
    simp only [this]) r1 r2
  have hrow := rows_all (f := f) (cue := Int32.ofNat n) h75
  have hl : ns2.length = u (rmg (Int32.ofNat n) (u (f 1)) f 1) := by
    have a1 := congrArg List.length e2
    have a2 := congrArg List.length hrow
    rw [show (es F2 ns2).length = ns2.length by simp [es]] at a1
    rw [show (rows (rmg (Int32.ofNat n) (u (f 1)) f)).length = u (rmg (Int32.ofNat n) (u (f 1)) f 1) by simp [rows]] at a2
    omega
  have h75b : u (rmg (Int32.ofNat n) (u (f 1)) f 1) ≤ u (f 1) := rmg_len h75
  refine S.map M2 t2 st (fun j hj hj1 => rmg_lo hj hj1) hl.symm (by omega) fun i e he => ?_
  have hi : i < u (rmg (Int32.ofNat n) (u (f 1)) f 1) := by rw [← hl]; have := (List.getElem?_eq_some_iff.mp he).1; simpa [es] using this
  have hr : (rows (rmg (Int32.ofNat n) (u (f 1)) f))[i]? = some (rowN (rmg (Int32.ofNat n) (u (f 1)) f) i) := by rw [rows_get, if_pos hi]
  rw [hrow] at hr
  rw [e2] at he
  obtain ⟨-, q1, q2, q3⟩ := f2 i e _ he hr
  exact ⟨q1, q2, q3⟩
end RMSHOW
