/-! ===== edit ===== -/
/-- a refusal leaves; the show may have changed -/
def RfmQ (N : Nat) (z : Int32) (O : Nat → Prop) (h : AH) (F : Nat → Nat → Value) (r : RR) (h' : AH) : Prop := ∃ (h2 : AH) (F2 : Nat → Nat → Value) (q : Nat), r = .inr q ∧ h' = sF h2 F2 ∧ Fr (OP O h) h F h2 F2 ∧ Cst N h h2 ∧ Is h2 q 21 1 ∧ F2 q 0 = .int z ∧ h.1 ≤ q
/-- the show has changed -/
def ShmQ (N : Nat) (G : GG) (s : Nat) (A : SA) (f2 g : Nat → Int32) (O : Nat → Prop) (h : AH) (F : Nat → Nat → Value) (r : RR) (h' : AH) : Prop := ∃ (h2 : AH) (F2 : Nat → Nat → Value) (ns : List Nat) (ks : Nat), r = .inl none ∧ h' = sF h2 F2 ∧ Fr (OP O h) h F h2 F2 ∧ Cst N h h2 ∧ ShowR G h2 F2 (fun b => O b ∨ h.1 ≤ b) s (A.wm ns ks) f2 g
def EdtQ (G : GG) (s : Nat) (A : SA) (f g : Nat → Int32) (c : Nat) (v : Int32) (o : Option (Int32 × Int32)) (b : Bool) (O : Nat → Prop) (h : AH) (F : Nat → Nat → Value) (r : RR) (h' : AH) : Prop :=
  pl f v = none ∧ ThQ 25 h F r h' ∨ ∃ p, pl f v = some p ∧ (edC f p c o b = 0 ∧ ShmQ 4500 G s A (edR f p c o b) g O h F r h' ∨ edC f p c o b ≠ 0 ∧ RfmQ 4500 (Int32.ofNat (edC f p c o b)) O h F r h')
/-- what is told, or null -/
def TldO (h : AH) (F : Nat → Nat → Value) (t : Option Nat) (o : Option (Int32 × Int32)) : Prop := (t = none ∧ o = none) ∨ ∃ a e, t = some a ∧ o = some e ∧ TldR h F a e.1 e.2
section EDIT
variable {G : GG} {d n : Nat} {h h2 h3 : AH} {F F2 F3 : Nat → Nat → Value} {s c k i j p q a : Nat} {A : SA} {f g : Nat → Int32} {O P : Nat → Prop} {x z v had : Int32} {t : Option Nat} {o : Option (Int32 × Int32)} {b : Bool}
theorem Fr.opT2 (a : Fr (OP O h) h F h2 F2) (b : Fr (OP (fun b => O b ∨ h.1 ≤ b) h2) h2 F2 h3 F3) : Fr (OP O h) h F h3 F3 := a.trans b fun b hb hp => ⟨hp.1.resolve_right (by omega), fun k => hp.2 (k.ext a.1)⟩
theorem ShowR.putE {vv : Nat} {lev part : Int32} {r : RR} (S : ShowR G h F O s A f g) (hc : c < 12) (hn : n < 100) (h75 : A.ns.length < 75) (T : TldR h F vv lev part) {h' : AH} (Q : PtQ A.im h F A.ns A.ks (12 * n + c) vv r h') :
    ∃ (h2 : AH) (F2 : Nat → Nat → Value) (ns ks : _) (w : Value), r = .inl (some w) ∧ w.category = 1 ∧ h' = sF h2 F2 ∧ Fr (OP O h) h F h2 F2 ∧ Cst 1740 h h2 ∧ ShowR G h2 F2 (fun b => O b ∨ h.1 ≤ b) s (A.wm ns ks) (giF f (Int32.ofNat n) (Int32.ofNat c) lev part) g := by
  obtain ⟨h2, F2, ns2, k2, rfl, M2, t2, st, hcase⟩ := Q
  rcases hcase with ⟨v0, m0, rfl, e2⟩ | ⟨m0, rfl, e2⟩
  · exact ⟨h2, F2, ns2, k2, .ref v0, rfl, rfl, rfl, S.mfr st.1, (ShowR.mcst (n := 60) st (by omega) (by omega)).mono (by omega), S.put1 hc hn rfl M2 t2 st T m0 e2⟩
  · exact ⟨h2, F2, ns2, k2, .null, rfl, rfl, rfl, S.mfr st.1, (ShowR.mcst (n := 60) st (by omega) (by omega)).mono (by omega), S.put2 hc hn rfl h75 M2 t2 st T m0 e2⟩
theorem ShowR.remE {r : RR} (S : ShowR G h F O s A f g) (hc : c < 12) (hn : n < 100) {h' : AH} (Q : (∀ e, e ∈ es F A.ns → e.1 ≠ 12 * n + c) ∧ r = .inl (some .null) ∧ h' = sF h F ∨
      ∃ (B1 : List (Nat × Nat)) (v : Nat) (B2 : List (Nat × Nat)) (h2 : AH) (F2 : Nat → Nat → Value) (ns2 : List Nat), es F A.ns = B1 ++ (12 * n + c, v) :: B2 ∧ r = .inl (some (.ref v)) ∧ h' = sF h2 F2 ∧ MapR h2 F2 A.im ns2 ∧ TK h2 F2 A.im A.ks ∧ es F2 ns2 = B1 ++ B2 ∧ MStep 96 576 A.im h F A.ns A.ks h2 F2 ns2 A.ks) :
    ∃ (h2 : AH) (F2 : Nat → Nat → Value) (ns ks : _) (w : Value), r = .inl (some w) ∧ w.category = 1 ∧ h' = sF h2 F2 ∧ Fr (OP O h) h F h2 F2 ∧ Cst 1840 h h2 ∧ ShowR G h2 F2 (fun b => O b ∨ h.1 ≤ b) s (A.wm ns ks) (match gv f (Int32.ofNat n) (Int32.ofNat c) with | some k => tkF f k | none => f) g := by
  rcases Q with ⟨m0, rfl, rfl⟩ | ⟨B1, v, B2, h2, F2, ns2, e1, rfl, rfl, M2, t2, e2, st⟩
  · rw [S.gv_n hc hn rfl m0]
    exact ⟨h, F, A.ns, A.ks, .null, rfl, rfl, rfl, Fr.refl, Cst.refl.mono (by omega), S.mono fun b _ hb => Or.inl hb⟩
  · have hi : (es F A.ns)[B1.length]? = some (12 * n + c, v) := by rw [e1, List.getElem?_append_right (Nat.le_refl _), Nat.sub_self]; rfl
    rw [S.gv_e hc hn rfl hi]
    exact ⟨h2, F2, ns2, A.ks, .ref v, rfl, rfl, rfl, S.mfr st.1, (ShowR.mcst (n := 150) st (by omega) (by omega)).mono (by omega), S.del M2 t2 st e1 e2⟩
/-- what is held doesn't hang on the level behind the last cue -/
theorem hl_had {had : Int32} (e0 : u (f 0) = n) (e : k < n → had = z) : hlB f k c had = hlB f k c z ∧ hlF f k c had = hlF f k c z := by
  by_cases hk : k < n
  · rw [e hk]; exact ⟨rfl, rfl⟩
  · have : ∀ y, hlB f k c y = false := fun y => by unfold hlB; simp [show ¬ k < u (f 0) by omega]
    unfold hlF
    rw [this, this]
    exact ⟨rfl, rfl⟩
theorem edF_lo {j : Nat} (h : j < 162) (h1 : j ≠ 1) : edF f p c o j = f j := by
  unfold edF
  split
  · exact giF_lo h h1
  · generalize gv f (f (18 + 12 * p)) (Int32.ofNat c) = y
    cases y with
    | some k => exact tkF_lo (by omega) h1
    | none => rfl
theorem edF_1 (h : u (f 1) ≤ 60) : u (edF f p c o 1) ≤ 61 := by
  unfold edF
  split
  · rw [giF_1w (by omega)]; split <;> omega
  · generalize gv f (f (18 + 12 * p)) (Int32.ofNat c) = y
    cases y with
    | some k => show u (tkF f k 1) ≤ 61; rw [tkF_1v (by omega)]; omega
    | none => show u (f 1) ≤ 61; omega
theorem edR_lo {j : Nat} (h : j < 162) (h1 : j ≠ 1) : edR f p c o b j = f j := by
  unfold edR
  split
  · rw [hlF_lo h h1, edF_lo h h1]
  · exact edF_lo h h1
theorem edR_1 (h : u (f 1) ≤ 60) : u (edR f p c o b 1) ≤ 62 := by
  have h1 := edF_1 (p := p) (c := c) (o := o) h
  unfold edR
  split
  · have := (hlF_1 (f := edF f p c o) (k := p + 1) (c := c) (had := lvN f c (p + 2)) (by omega)).2; omega
  · omega
theorem RefQ.rfm {r : RR} {h' : AH} {N : Nat} (Q : RefQ z h2 F2 r h') (fr : Fr (OP O h) h F h2 F2) (cst : Cst N h h2) : RfmQ (N + 2) z O h F r h' := by
  obtain ⟨h3, F3, q, rfl, rfl, fr3, c3, i3, v3, hq⟩ := Q
  exact ⟨h3, F3, q, rfl, rfl, fr.opT fr3.op, cst.trans c3, i3, v3, Nat.le_trans fr.1.1 hq⟩
end EDIT
