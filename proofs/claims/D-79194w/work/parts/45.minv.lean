/-! ===== the state of the model: what editing keeps (plain) ===== -/
theorem gvg_none {f : Nat → Int32} {cue ch : Int32} : ∀ {t k : Nat}, gvg f cue ch t k = none → ∀ p, k ≤ p → p < k + t → ¬ (f (162 + 4 * p) = cue ∧ f (162 + 4 * p + 1) = ch)
  | 0, _, _ => fun p h1 h2 => by omega
  | t + 1, k, h => fun p h1 h2 => by
    unfold gvg at h
    split at h
    · cases h
    · rename_i e
      by_cases ep : p = k
      · rw [ep]; exact e
      · exact gvg_none h p (by omega) (by omega)
theorem gv_none {f : Nat → Int32} {cue ch : Int32} (h : gv f cue ch = none) (p : Nat) (hp : p < u (f 1)) : ¬ (f (162 + 4 * p) = cue ∧ f (162 + 4 * p + 1) = ch) := gvg_none h p (by omega) (by omega)
theorem pl_none {f : Nat → Int32} {cue : Int32} (h : pl f cue = none) (p : Nat) (hp : p < u (f 0)) : f (18 + 12 * p) ≠ cue := plg_none h p (by omega) (by omega)
theorem gvg_cg {f g : Nat → Int32} {cue ch : Int32} : ∀ {t k : Nat}, (∀ i, k ≤ i → i < k + t → f (162 + 4 * i) = g (162 + 4 * i) ∧ f (162 + 4 * i + 1) = g (162 + 4 * i + 1)) → gvg f cue ch t k = gvg g cue ch t k
  | 0, _, _ => rfl
  | t + 1, k, h => by
    unfold gvg
    rw [(h k (by omega) (by omega)).1, (h k (by omega) (by omega)).2, gvg_cg (t := t) (k := k + 1) fun i h1 h2 => h i (by omega) (by omega)]
theorem plg_cg {f g : Nat → Int32} {cue : Int32} : ∀ {t k : Nat}, (∀ i, k ≤ i → i < k + t → f (18 + 12 * i) = g (18 + 12 * i)) → plg f cue t k = plg g cue t k
  | 0, _, _ => rfl
  | t + 1, k, h => by
    unfold plg
    rw [h k (by omega) (by omega), plg_cg (t := t) (k := k + 1) fun i h1 h2 => h i (by omega) (by omega)]
/-- the cells that levels and places look at -/
def Eqv (f g : Nat → Int32) : Prop := ∀ j, j < 402 → j ≠ 2 → j ≠ 3 → j ≠ 4 → j ≠ 5 → f j = g j
theorem Eqv.gv {f g : Nat → Int32} (e : Eqv f g) (hI : u (f 1) ≤ 60) (cue ch : Int32) : gv f cue ch = gv g cue ch := by
  unfold Jvm.Pilot.CCueStackLaw_law_r4170_6a4440.gv
  rw [← e 1 (by omega) (by omega) (by omega) (by omega) (by omega)]
  exact gvg_cg fun i h1 h2 => ⟨e _ (by omega) (by omega) (by omega) (by omega) (by omega), e _ (by omega) (by omega) (by omega) (by omega) (by omega)⟩
theorem Eqv.pl {f g : Nat → Int32} (e : Eqv f g) (hI : u (f 0) ≤ 12) (cue : Int32) : pl f cue = pl g cue := by
  unfold Jvm.Pilot.CCueStackLaw_law_r4170_6a4440.pl
  rw [← e 0 (by omega) (by omega) (by omega) (by omega) (by omega)]
  exact plg_cg fun i h1 h2 => e _ (by omega) (by omega) (by omega) (by omega) (by omega)
theorem Eqv.lvS {f g : Nat → Int32} (e : Eqv f g) (hI : u (f 1) ≤ 60) {c k : Nat} (hc : c < 12) (hk : k < 12) (l : Int32) : lvS f c k l = lvS g c k l := by
  unfold Jvm.Pilot.CCueStackLaw_law_r4170_6a4440.lvS isBl
  rw [e.gv hI, e (18 + 12 * k) (by omega) (by omega) (by omega) (by omega) (by omega), e (6 + c) (by omega) (by omega) (by omega) (by omega) (by omega), e (18 + 12 * k + 2) (by omega) (by omega) (by omega) (by omega) (by omega)]
  cases eg : Jvm.Pilot.CCueStackLaw_law_r4170_6a4440.gv g (g (18 + 12 * k)) (Int32.ofNat c) with
  | none => rfl
  | some i =>
    have h2 := (gv_some eg).1
    rw [← e 1 (by omega) (by omega) (by omega) (by omega) (by omega)] at h2
    show (if f (162 + 4 * i + 2) = -1 then _ else _) = (if g (162 + 4 * i + 2) = -1 then _ else _)
    rw [e (162 + 4 * i + 2) (by omega) (by omega) (by omega) (by omega) (by omega)]
theorem Eqv.lvN {f g : Nat → Int32} (e : Eqv f g) (hI : u (f 1) ≤ 60) {c : Nat} (hc : c < 12) : ∀ {k : Nat}, k ≤ 12 → lvN f c k = lvN g c k
  | 0, _ => e (6 + c) (by omega) (by omega) (by omega) (by omega) (by omega)
  | k + 1, hk => by
    show Jvm.Pilot.CCueStackLaw_law_r4170_6a4440.lvS f c k _ = Jvm.Pilot.CCueStackLaw_law_r4170_6a4440.lvS g c k _
    rw [e.lvN hI hc (by omega), e.lvS hI hc (by omega)]
theorem Eqv.ptO {f g : Nat → Int32} (e : Eqv f g) (hI : u (f 1) ≤ 60) (cue : Int32) (c : Nat) : ptO f cue c = ptO g cue c := by
  unfold Jvm.Pilot.CCueStackLaw_law_r4170_6a4440.ptO
  rw [e.gv hI]
  cases eg : Jvm.Pilot.CCueStackLaw_law_r4170_6a4440.gv g cue (Int32.ofNat c) with
  | none => rfl
  | some i =>
    have h2 := (gv_some eg).1
    rw [← e 1 (by omega) (by omega) (by omega) (by omega) (by omega)] at h2
    show u _ = u _
    rw [e (162 + 4 * i + 3) (by omega) (by omega) (by omega) (by omega) (by omega)]
theorem Eqv.inv {f g : Nat → Int32} (e : Eqv f g) (hI : Inv f) : Inv g := by
  obtain ⟨h1, h2, h3, h4, h5, h6⟩ := hI
  have e0 := e 0 (by omega) (by omega) (by omega) (by omega) (by omega)
  have e1 := e 1 (by omega) (by omega) (by omega) (by omega) (by omega)
  have ei : ∀ i r, i < 60 → r < 4 → g (162 + 4 * i + r) = f (162 + 4 * i + r) := fun i r hi hr => (e _ (by omega) (by omega) (by omega) (by omega) (by omega)).symm
  have ek : ∀ k r, k < 12 → r < 12 → g (18 + 12 * k + r) = f (18 + 12 * k + r) := fun k r hi hr => (e _ (by omega) (by omega) (by omega) (by omega) (by omega)).symm
  refine ⟨by rw [← e0]; exact h1, by rw [← e1]; exact h2, fun i hi => ?_, fun i j hij hj => ?_, fun k hk => ?_, fun j k hjk hk => ?_⟩
  · rw [← e1] at hi
    obtain ⟨a, b, p, c, d⟩ := h3 i hi
    rw [ei i 3 (by omega) (by omega), ei i 1 (by omega) (by omega), ← e0]
    refine ⟨a, b, p, c, ?_⟩
    have x1 := ek p 0 (by omega) (by omega)
    have x2 := ei i 0 (by omega) (by omega)
    rw [Nat.add_zero] at x1 x2
    rw [x1, x2, d]
  · rw [← e1] at hj
    have x1 := ei i 0 (by omega) (by omega)
    have x2 := ei j 0 (by omega) (by omega)
    rw [Nat.add_zero] at x1 x2
    rw [x1, x2, ei i 1 (by omega) (by omega), ei j 1 (by omega) (by omega)]
    exact h4 i j hij hj
  · rw [← e0] at hk
    have x1 := ek k 0 (by omega) (by omega)
    rw [Nat.add_zero] at x1
    rw [x1, ek k 1 (by omega) (by omega), ek k 2 (by omega) (by omega), ek k 3 (by omega) (by omega)]
    exact h5 k hk
  · rw [← e0] at hk
    have x1 := ek k 0 (by omega) (by omega)
    have x2 := ek j 0 (by omega) (by omega)
    rw [Nat.add_zero] at x1 x2
    rw [x1, x2]
    exact h6 j k hjk hk
/-! giving -/
theorem giK_le {f : Nat → Int32} {cue ch : Int32} : giK f cue ch ≤ u (f 1) := by
  unfold giK
  split
  · rename_i k e
    have := (gv_some e).1
    omega
  · exact Nat.le_refl _
theorem giF_lo {f : Nat → Int32} {cue ch lev part : Int32} {j : Nat} (h : j < 162) (h1 : j ≠ 1) : giF f cue ch lev part j = f j := by
  unfold giF
  rw [upd_o _ _ (by omega), upd_o _ _ (by omega), upd_o _ _ (by omega), upd_o _ _ (by omega)]
  unfold giM
  cases gv f cue ch with
  | none => exact upd_o _ _ h1
  | some k => rfl
theorem giF_hi {f : Nat → Int32} {cue ch lev part : Int32} {j : Nat} (h : j ≠ 1) (h1 : j < 162 + 4 * giK f cue ch ∨ 162 + 4 * giK f cue ch + 4 ≤ j) : giF f cue ch lev part j = f j := by
  unfold giF
  rw [upd_o _ _ (by omega), upd_o _ _ (by omega), upd_o _ _ (by omega), upd_o _ _ (by omega)]
  unfold giM
  cases gv f cue ch with
  | none => exact upd_o _ _ h
  | some k => rfl
theorem giF_K {f : Nat → Int32} {cue ch lev part : Int32} : giF f cue ch lev part (162 + 4 * giK f cue ch) = cue ∧ giF f cue ch lev part (162 + 4 * giK f cue ch + 1) = ch ∧ giF f cue ch lev part (162 + 4 * giK f cue ch + 2) = lev ∧ giF f cue ch lev part (162 + 4 * giK f cue ch + 3) = part := by
  unfold giF
  refine ⟨?_, ?_, ?_, ?_⟩
  · rw [upd_o _ _ (by omega), upd_o _ _ (by omega), upd_o _ _ (by omega), upd_s]
  · rw [upd_o _ _ (by omega), upd_o _ _ (by omega), upd_s]
  · rw [upd_o _ _ (by omega), upd_s]
  · rw [upd_s]
theorem giF_1 {f : Nat → Int32} {cue ch lev part : Int32} (h : u (f 1) ≤ 60) : u (giF f cue ch lev part 1) = if (gv f cue ch).isSome then u (f 1) else u (f 1) + 1 := by
  unfold giF
  rw [upd_o _ _ (by omega), upd_o _ _ (by omega), upd_o _ _ (by omega), upd_o _ _ (by omega)]
  unfold giM
  cases gv f cue ch with
  | none =>
    show u (upd f 1 _ 1) = _
    rw [upd_s, u_of (by omega)]
    rfl
  | some k => rfl
theorem inv_gi {f : Nat → Int32} {cue lev part : Int32} {c : Nat} (hI : Inv f) (hc : c < 12) (hp : u part < 4) (hcue : ∃ p, p < u (f 0) ∧ f (18 + 12 * p) = cue) (hg : gv f cue (Int32.ofNat c) = none → u (f 1) < 60) : Inv (giF f cue (Int32.ofNat c) lev part) := by
  obtain ⟨h1, h2, h3, h4, h5, h6⟩ := hI
  have n1 := giF_1 (f := f) (cue := cue) (ch := Int32.ofNat c) (lev := lev) (part := part) h2
  have hK := giK_le (f := f) (cue := cue) (ch := Int32.ofNat c)
  have l0 : giF f cue (Int32.ofNat c) lev part 0 = f 0 := giF_lo (by omega) (by omega)
  have lk : ∀ k r, k < 12 → r < 12 → giF f cue (Int32.ofNat c) lev part (18 + 12 * k + r) = f (18 + 12 * k + r) := fun k r hk hr => giF_lo (by omega) (by omega)
  have lk0 : ∀ k, k < 12 → giF f cue (Int32.ofNat c) lev part (18 + 12 * k) = f (18 + 12 * k) := fun k hk => giF_lo (by omega) (by omega)
  have eK := giF_K (f := f) (cue := cue) (ch := Int32.ofNat c) (lev := lev) (part := part)
  have eo : ∀ i r, i ≠ giK f cue (Int32.ofNat c) → r < 4 → giF f cue (Int32.ofNat c) lev part (162 + 4 * i + r) = f (162 + 4 * i + r) := fun i r hi hr => giF_hi (by omega) (by omega)
  have eo0 : ∀ i, i ≠ giK f cue (Int32.ofNat c) → giF f cue (Int32.ofNat c) lev part (162 + 4 * i) = f (162 + 4 * i) := fun i hi => giF_hi (by omega) (by omega)
  have hlt : ∀ i, i < u (giF f cue (Int32.ofNat c) lev part 1) → i ≠ giK f cue (Int32.ofNat c) → i < u (f 1) := fun i hi hn => by
    rw [n1] at hi
    cases eg : gv f cue (Int32.ofNat c) with
    | none =>
      rw [eg] at hi
      have e : giK f cue (Int32.ofNat c) = u (f 1) := by unfold giK; rw [eg]
      rw [e] at hn
      replace hi : i < u (f 1) + 1 := hi
      omega
    | some k =>
      rw [eg] at hi
      exact hi
  have hno : ∀ i, i < u (giF f cue (Int32.ofNat c) lev part 1) → i ≠ giK f cue (Int32.ofNat c) → f (162 + 4 * i) = cue → f (162 + 4 * i + 1) ≠ Int32.ofNat c := fun i hi hn e1 e2 => by
    have hi := hlt i hi hn
    cases eg : gv f cue (Int32.ofNat c) with
    | none => exact gv_none eg i hi ⟨e1, e2⟩
    | some k =>
      obtain ⟨a, b, c9⟩ := gv_some eg
      have e : giK f cue (Int32.ofNat c) = k := by unfold giK; rw [eg]
      rw [e] at hn
      rcases Nat.lt_or_ge i k with q | q
      · exact h4 i k q a (by rw [e1, b]) (by rw [e2, c9])
      · exact h4 k i (by omega) hi (by rw [e1, b]) (by rw [e2, c9])
  refine ⟨by rw [l0]; exact h1, ?_, fun i hi => ?_, fun i j hij hj => ?_, fun k hk => ?_, fun j k hjk hk => ?_⟩
  · rw [n1]
    split
    · exact h2
    · rename_i e
      have := hg (by cases eg : gv f cue (Int32.ofNat c) <;> simp_all)
      omega
  · rw [l0]
    by_cases e : i = giK f cue (Int32.ofNat c)
    · rw [e, eK.1, eK.2.1, eK.2.2.2]
      obtain ⟨p, p1, p2⟩ := hcue
      exact ⟨hp, by rw [u_of (by omega)]; exact hc, p, p1, by rw [lk0 p (by omega)]; exact p2⟩
    · obtain ⟨a, b, p, p1, p2⟩ := h3 i (hlt i hi e)
      rw [eo i 3 e (by omega), eo i 1 e (by omega), eo0 i e]
      exact ⟨a, b, p, p1, by rw [lk0 p (by omega)]; exact p2⟩
  · by_cases e1 : i = giK f cue (Int32.ofNat c)
    · have e2 : j ≠ giK f cue (Int32.ofNat c) := by omega
      rw [e1, eK.1, eK.2.1, eo0 j e2, eo j 1 e2 (by omega)]
      exact fun a b => hno j hj e2 a.symm b.symm
    · by_cases e2 : j = giK f cue (Int32.ofNat c)
      · rw [e2, eK.1, eK.2.1, eo0 i e1, eo i 1 e1 (by omega)]
        exact fun a b => hno i (by omega) e1 a b
      · rw [eo0 j e2, eo j 1 e2 (by omega), eo0 i e1, eo i 1 e1 (by omega)]
        exact h4 i j hij (hlt j hj e2)
  · rw [l0] at hk
    rw [lk0 k (by omega), lk k 1 (by omega) (by omega), lk k 2 (by omega) (by omega), lk k 3 (by omega) (by omega)]
    exact h5 k hk
  · rw [l0] at hk
    rw [lk0 k (by omega), lk0 j (by omega)]
    exact h6 j k hjk hk
/-! taking away -/
theorem tkF_lo {f : Nat → Int32} {k j : Nat} (h : j < 162 + 4 * k) (h1 : j ≠ 1) : tkF f k j = f j := by
  unfold tkF cpF
  rw [if_neg (by omega), upd_o _ _ h1]
theorem tkF_1 {f : Nat → Int32} {k : Nat} (h : u (f 1) ≤ 60) : u (tkF f k 1) = u (f 1) - 1 := by
  unfold tkF cpF
  rw [if_neg (by omega), upd_s, u_of (by omega)]
theorem tkF_at {f : Nat → Int32} {k i r : Nat} (hr : r < 4) (hi : i < u (f 1) - 1) : tkF f k (162 + 4 * i + r) = if i < k then f (162 + 4 * i + r) else f (162 + 4 * (i + 1) + r) := by
  by_cases e : i < k
  · rw [if_pos e]
    exact tkF_lo (by omega) (by omega)
  · rw [if_neg e]
    unfold tkF cpF
    rw [if_pos (by omega), upd_o _ _ (by omega)]
    congr 1
    omega
theorem inv_tk {f : Nat → Int32} {k : Nat} (hI : Inv f) (hk9 : k < u (f 1)) : Inv (tkF f k) := by
  obtain ⟨h1, h2, h3, h4, h5, h6⟩ := hI
  have n1 := tkF_1 (f := f) (k := k) h2
  have l0 : tkF f k 0 = f 0 := tkF_lo (by omega) (by omega)
  have lk : ∀ p r, p < 12 → r < 12 → tkF f k (18 + 12 * p + r) = f (18 + 12 * p + r) := fun p r hk hr => tkF_lo (by omega) (by omega)
  have lk0 : ∀ p, p < 12 → tkF f k (18 + 12 * p) = f (18 + 12 * p) := fun p hk => tkF_lo (by omega) (by omega)
  -- the place that it had
  have hq : ∀ i, i < u (f 1) - 1 → ∃ i2, i2 < u (f 1) ∧ i2 = (if i < k then i else i + 1) ∧ ∀ r, r < 4 → tkF f k (162 + 4 * i + r) = f (162 + 4 * i2 + r) := fun i hi => by
    by_cases e : i < k
    · exact ⟨i, by omega, by rw [if_pos e], fun r hr => by rw [tkF_at hr hi, if_pos e]⟩
    · exact ⟨i + 1, by omega, by rw [if_neg e], fun r hr => by rw [tkF_at hr hi, if_neg e]⟩
  refine ⟨by rw [l0]; exact h1, by rw [n1]; omega, fun i hi => ?_, fun i j hij hj => ?_, fun p hp => ?_, fun j p hjp hp => ?_⟩
  · rw [n1] at hi
    rw [l0]
    obtain ⟨i2, x1, -, x2⟩ := hq i hi
    have y := x2 0 (by omega)
    rw [Nat.add_zero, Nat.add_zero] at y
    obtain ⟨a, b, p, p1, p2⟩ := h3 i2 x1
    rw [x2 3 (by omega), x2 1 (by omega), y]
    exact ⟨a, b, p, p1, by rw [lk0 p (by omega)]; exact p2⟩
  · rw [n1] at hj
    obtain ⟨i2, x1, x3, x2⟩ := hq i (by omega)
    obtain ⟨j2, y1, y3, y2⟩ := hq j hj
    have a := x2 0 (by omega)
    have b := y2 0 (by omega)
    rw [Nat.add_zero, Nat.add_zero] at a b
    rw [a, b, x2 1 (by omega), y2 1 (by omega)]
    refine h4 i2 j2 ?_ y1
    rw [x3, y3]
    split <;> split <;> omega
  · rw [l0] at hp
    rw [lk0 p (by omega), lk p 1 (by omega) (by omega), lk p 2 (by omega) (by omega), lk p 3 (by omega) (by omega)]
    exact h5 p hp
  · rw [l0] at hp
    rw [lk0 p (by omega), lk0 j (by omega)]
    exact h6 j p hjp hp
