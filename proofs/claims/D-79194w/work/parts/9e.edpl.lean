/-! ===== removing a cue and editing: the model does as the component (plain) ===== -/
section EDPL
variable {f g lev old : Nat → Int32} {i j k c p was t n : Nat} {had l q cue ch v z : Int32} {b : Bool} {o : Option (Int32 × Int32)} {σ σ2 σ3 : MS}
theorem gi_402 (h1 : u (f 1) ≤ 60) (h : u (giF f cue ch l q 1) ≤ 60) (hj : 402 ≤ j) : giF f cue ch l q j = f j := by
  refine giF_hi (by omega) (Or.inr ?_)
  have hK : giK f cue ch ≤ 59 := by
    rw [giF_1 h1] at h
    unfold giK
    cases e : gv f cue ch with
    | none => rw [e] at h; simp at h; show u (f 1) ≤ 59; omega
    | some k => have := (gv_some e).1; show k ≤ 59; omega
  omega
theorem tk_402 (h : u (f 1) ≤ 60) (hj : 402 ≤ j) : tkF f k j = f j := by
  unfold tkF cpF
  rw [if_neg (by omega), upd_o _ _ (by omega)]
theorem rmg_402 : ∀ {k : Nat} {f : Nat → Int32}, u (f 1) ≤ 60 → 402 ≤ j → rmg cue k f j = f j
  | 0, _, _, _ => rfl
  | k + 1, f, h, hj => by
    unfold rmg
    split
    · rw [rmg_402 (by rw [tkF_1 h]; omega) hj, tk_402 h hj]
    · exact rmg_402 h hj
theorem rmF_402 (h0 : u (f 0) ≤ 12) (h : u (f 1) ≤ 60) (hj : 402 ≤ j) : rmF f p j = f j := by
  unfold rmF
  rw [rcF_hi (by rw [rmg_lo (by decide) (by decide)]; exact h0) (by omega), rmg_402 h hj]
theorem hl_402 (h1 : u (f 1) ≤ 60) (h : u (hlF f k c had 1) ≤ 60) (hj : 402 ≤ j) : hlF f k c had j = f j := by
  unfold hlF at h ⊢
  split
  · rename_i e
    rw [if_pos e] at h
    exact gi_402 h1 h hj
  · rfl
theorem hdW_402 : ∀ {t c : Nat} {f : Nat → Int32}, u (f 1) ≤ 60 → t ≤ 12 → u ((hdW lev p was t c f).2 1) ≤ 60 → 402 ≤ j → (hdW lev p was t c f).2 j = f j
  | 0, _, _, _, _, _, _ => rfl
  | t + 1, c, f, h1, ht, h, hj => by
    have h : u ((hdW lev p was t (c + 1) (hlF f p c (lev (12 * was + c)))).2 1) ≤ 60 := h
    have a := hlF_1 (f := f) (k := p) (c := c) (had := lev (12 * was + c)) (by omega)
    have a2 := (hdW_1 (lev := lev) (p := p) (was := was) (t := t) (c := c + 1) (f := hlF f p c (lev (12 * was + c))) (by omega)).1
    show (hdW lev p was t (c + 1) (hlF f p c (lev (12 * was + c)))).2 j = _
    rw [hdW_402 (by omega) (by omega) h hj, hl_402 h1 (by omega) hj]
theorem rmW_402 (h0 : u (f 0) ≤ 12) (h1 : u (f 1) ≤ 60) (h : u ((rmW f p b).2 1) ≤ 60) (hj : 402 ≤ j) : (rmW f p b).2 j = f j := by
  have a := rmF_1 (p := p) h0 (show u (f 1) ≤ 75 by omega)
  unfold rmW at h ⊢
  cases b with
  | false => exact rmF_402 h0 h1 hj
  | true => exact (hdW_402 (by omega) (Nat.le_refl 12) h hj).trans (rmF_402 h0 h1 hj)
theorem edF_402 (h1 : u (f 1) ≤ 60) (h : u (edF f p c o 1) ≤ 60) (hj : 402 ≤ j) : edF f p c o j = f j := by
  unfold edF at h ⊢
  cases o with
  | some e => exact gi_402 h1 h hj
  | none =>
    show (match gv f (f (18 + 12 * p)) (Int32.ofNat c) with | some k => tkF f k | none => f) j = f j
    cases gv f (f (18 + 12 * p)) (Int32.ofNat c) with
    | some k => exact tk_402 h1 hj
    | none => rfl
theorem edR_402 (h1 : u (f 1) ≤ 60) (h : u (edR f p c o b 1) ≤ 60) (hj : 402 ≤ j) : edR f p c o b j = f j := by
  have a := edF_1 (p := p) (c := c) (o := o) h1
  unfold edR at h ⊢
  cases b with
  | false => exact edF_402 h1 h hj
  | true =>
    have h : u (hlF (edF f p c o) (p + 1) c (lvN f c (p + 2)) 1) ≤ 60 := h
    have a2 := (hlF_1 (f := edF f p c o) (k := p + 1) (c := c) (had := lvN f c (p + 2)) (by omega)).1
    exact (hl_402 (by omega) h hj).trans (edF_402 h1 (by omega) hj)
/-- holding looks at one row of the levels only -/
theorem hdg_cg {lev2 : Nat → Int32} {was2 : Nat} (e : ∀ c, c < 12 → lev (12 * was + c) = lev2 (12 * was2 + c)) : ∀ {t c : Nat} {f : Nat → Int32}, c + t ≤ 12 → hdg lev p was t c f = hdg lev2 p was2 t c f
  | 0, _, _, _ => rfl
  | t + 1, c, f, h => by
    unfold hdg
    rw [e c (by omega), hdg_cg e (by omega), hdg_cg e (by omega)]
theorem hdF_cg {lev2 : Nat → Int32} {was2 : Nat} (e : p < u (f 0) → ∀ c, c < 12 → lev (12 * was + c) = lev2 (12 * was2 + c)) : hdF lev p was f = hdF lev2 p was2 f := by
  unfold hdF
  by_cases h : p < u (f 0) ∧ isBl f p = false
  · rw [if_pos h, if_pos h]
    exact hdg_cg (e h.1) (by omega)
  · rw [if_neg h, if_neg h]
theorem SgE.mA8 : SgE σ (mA σ 8 g) := ⟨rfl, rfl, rfl, rfl, rfl, rfl, rfl, rfl⟩
theorem SgE.chgE (e : SgE σ σ2) (e1 : σ2.1 1 = f) : SgE (chF σ f) (chg (mV σ2 7 z)) := by
  obtain ⟨q1, q2, q3, q4, q5, q6, q7, q8⟩ := e
  unfold chF chg
  refine ⟨?_, ?_, ?_, ?_, ?_, ?_, ?_, ?_⟩ <;> simp [mV, mA, q1, q2, q3, q4, q5, q6, q7, q8, e1]
theorem SgE.chg0 (e : SgE σ σ2) (e1 : σ2.1 1 = f) : SgE (chF σ f) (chg σ2) := by
  obtain ⟨q1, q2, q3, q4, q5, q6, q7, q8⟩ := e
  unfold chF chg
  refine ⟨?_, ?_, ?_, ?_, ?_, ?_, ?_, ?_⟩ <;> simp [mV, mA, q1, q2, q3, q4, q5, q6, q7, q8, e1]
theorem SgE.m6 (e : SgE σ σ2) : SgE (mV σ 6 v) (mV σ2 6 v) := by
  obtain ⟨q1, q2, q3, q4, q5, q6, q7, q8⟩ := e
  refine ⟨?_, ?_, ?_, ?_, ?_, ?_, ?_, ?_⟩ <;> simp [mV, q1, q2, q3, q4, q5, q6, q7, q8]
theorem rmg_smN : ∀ k, cntN f v k = smN (cntG f v) k
  | 0 => rfl
  | k + 1 => by show cntN f v k + _ = smN (cntG f v) k + cntG f v k; rw [rmg_smN k]; rfl
/-- the model removes a cue as the component does -/
theorem dRm_is (hI : Inv f) (hpl : pl f v = some p) (hσ : σ.1 1 = f) : (rmC f p b = 0 → ∃ σ2, dRm f σ v b = (0, (rmW f p b).2, σ2) ∧ SgE σ σ2 ∧ σ2.1 1 = f) ∧ (rmC f p b ≠ 0 → ∃ σ2, dRm f σ v b = (2, f, mV σ2 6 (Int32.ofNat (rmC f p b))) ∧ SgE σ σ2) := by
  have hp := (pl_some hpl).1
  have hcue := (pl_some hpl).2
  have h12 := hI.1
  have h60 := hI.2.1
  have hF1 := rmF_1 (p := p) h12 (show u (f 1) ≤ 75 by omega)
  have hF0 := rmF_0 (p := p) h12
  have hd : ∀ σ : MS, dRm f σ v b = if f (18 + 12 * p + 3) = 1 then (2, σ.1 1, mV σ 6 (Int32.ofNat 1)) else
      if b then
        if 0 < (hdF (klF f (σ.1 8) (12 * u (f 0))) p (p + 1) (rmF f p)).1 then (2, σ.1 1, mV (mA σ 8 (klF f (σ.1 8) (12 * u (f 0)))) 6 (Int32.ofNat (hdF (klF f (σ.1 8) (12 * u (f 0))) p (p + 1) (rmF f p)).1))
        else (0, (hdF (klF f (σ.1 8) (12 * u (f 0))) p (p + 1) (rmF f p)).2, mA σ 8 (klF f (σ.1 8) (12 * u (f 0))))
      else (0, rmF f p, mA σ 8 (klF f (σ.1 8) (12 * u (f 0)))) := fun σ => by
    unfold dRm
    rw [hpl]
    unfold rmF
    rw [hcue]
  rw [hd σ]
  by_cases h1 : f (18 + 12 * p + 3) = 1
  · have hC : rmC f p b = 1 := by unfold rmC; rw [if_pos (Or.inl h1)]
    rw [hC, if_pos h1]
    exact ⟨fun e => by omega, fun _ => ⟨σ, by rw [hσ], SgE.refl⟩⟩
  · rw [if_neg h1]
    cases b with
    | false =>
      have hW : rmW f p false = (false, rmF f p) := rfl
      have hC : rmC f p false = 0 := by
        unfold rmC
        rw [hW, if_neg (by rintro (e | ⟨e, -⟩); exact h1 e; cases e), if_neg (by show ¬ 60 < u (rmF f p 1); omega)]
      rw [hC, hW]
      exact ⟨fun _ => ⟨_, rfl, SgE.mA8, hσ⟩, fun e => absurd rfl e⟩
    | true =>
      have hlev : hdF (klF f (σ.1 8) (12 * u (f 0))) p (p + 1) (rmF f p) = hdF (hvV f p) p 0 (rmF f p) := hdF_cg fun h9 c hc => by
        rw [hF0] at h9
        rw [kl_at (by omega) hc]
        unfold hvV
        rw [if_pos (by omega)]
        congr 1
        omega
      rw [if_pos rfl, hlev]
      have hW : rmW f p true = hdW (hvV f p) p 0 12 0 (rmF f p) := rfl
      obtain ⟨w1, w2, w3, w4⟩ := hdF_W (lev := hvV f p) (p := p) (was := 0) (f := rmF f p) (Or.inl (by omega)) (by omega)
      generalize hdW (hvV f p) p 0 12 0 (rmF f p) = W at hW w1 w2 w3 w4
      cases ha : W.1 with
      | false =>
        obtain ⟨e1, e2⟩ := w1 ha
        have hC : rmC f p true = 0 := by
          unfold rmC
          rw [hW, ha, e2, if_neg (by rintro (e | ⟨e, -⟩); exact h1 e; cases e), if_neg (by omega)]
        rw [hC, hW, e1, e2]
        exact ⟨fun _ => ⟨_, rfl, SgE.mA8, hσ⟩, fun e => absurd rfl e⟩
      | true =>
        by_cases h2 : rmF f p (18 + 12 * p + 3) = 1
        · have e1 := w2 ha h2
          have hC : rmC f p true = 1 := by unfold rmC; rw [hW, ha, if_pos (Or.inr ⟨rfl, h2⟩)]
          rw [hC, e1, if_pos (by decide)]
          exact ⟨fun e => by omega, fun _ => ⟨_, by rw [hσ], SgE.mA8⟩⟩
        · by_cases h3 : u (W.2 1) ≤ 60
          · have e1 := w3 ha h2 h3
            have hC : rmC f p true = 0 := by
              unfold rmC
              rw [hW, if_neg (by rintro (e | ⟨-, e⟩); exact h1 e; exact h2 e), if_neg (by omega)]
            rw [hC, hW, e1]
            exact ⟨fun _ => ⟨mA σ 8 (klF f (σ.1 8) (12 * u (f 0))), if_neg (Nat.lt_irrefl 0), SgE.mA8, hσ⟩, fun e => absurd rfl e⟩
          · have e1 := w4 ha h2 (by omega)
            have hC : rmC f p true = 2 := by
              unfold rmC
              rw [hW, if_neg (by rintro (e | ⟨-, e⟩); exact h1 e; exact h2 e), if_pos (by omega)]
            rw [hC, e1, if_pos (by decide)]
            exact ⟨fun e => by omega, fun _ => ⟨_, by rw [hσ], SgE.mA8⟩⟩
theorem rmC_60 (e : rmC f p b = 0) : u ((rmW f p b).2 1) ≤ 60 := by
  unfold rmC at e
  split at e
  · cases e
  · split at e
    · cases e
    · omega
theorem rm_good (gf : GoodF f) (hpl : pl f v = some p) (e : rmC f p b = 0) : GoodF (rmW f p b).2 := by
  have hp := (pl_some hpl).1
  have h12 := gf.1.1
  refine ⟨?_, fun c hc => ?_, ?_⟩
  · obtain ⟨σ2, e2, -⟩ := (dRm_is (σ := (fun _ => f, fun _ => 0)) (b := b) gf.1 hpl rfl).1 e
    have := dRm_inv (f := f) (σ := (fun _ => f, fun _ => 0)) (cue := v) (b := b) gf.1 gf.1
    rw [e2] at this
    dsimp only at this
    exact this
  · rw [rmW_lo (by omega) (by omega), rmF_h h12 hc]
    exact gf.2.1 c hc
  · rw [rmW_lo (by omega) (by omega)]
    unfold rmF
    rw [rcF_hi (by rw [rmg_lo (by decide) (by decide)]; exact h12) (by omega), rmg_lo (by omega) (by omega)]
    exact gf.2.2
/-! editing -/
theorem edC_60 (e : edC f p c o b = 0) : u (edR f p c o b 1) ≤ 60 ∧ f (18 + 12 * p + 3) ≠ 1 ∧ ¬ (o = none ∧ gv f (f (18 + 12 * p)) (Int32.ofNat c) = none) := by
  unfold edC at e
  split at e
  · cases e
  · rename_i h1
    split at e
    · cases e
    · split at e
      · cases e
      · rename_i h2 h3
        exact ⟨by omega, fun h => h1 (Or.inl h), h3⟩
theorem gvH_lev (h : f (18 + 12 * p + 3) ≠ 1) : (gvH f old cue p c l q b).2.2 = klF f old (12 * u (f 0)) := by
  unfold gvH
  rw [if_neg h]
  split
  · rfl
  · split <;> rfl
theorem tkH_lev (h : f (18 + 12 * p + 3) ≠ 1) (h2 : gv f cue (Int32.ofNat c) ≠ none) : (tkH f old cue p c b).2.2 = klF f old (12 * u (f 0)) := by
  unfold tkH
  rw [if_neg h]
  split
  · rename_i e
    exact absurd e h2
  · split <;> rfl
theorem klv_lt (hk : k < n) (hc : c < 12) : klF f old (12 * n) (12 * k + c) = lvN f c (k + 1) := by
  unfold klF
  rw [if_pos (by omega), show (12 * k + c) % 12 = c by omega, show (12 * k + c) / 12 + 1 = k + 1 by omega]
/-- in how many cues a level is changed -/
def chN (f g : Nat → Int32) (c : Nat) : Nat → Int32
  | 0 => 0
  | k + 1 => chN f g c k + (if lvN f c (k + 1) ≠ lvN g c (k + 1) then 1 else 0)
theorem chN_is (hc : c < 12) : ∀ k, k ≤ n → chN f g c k = smN (chgG g (klF f old (12 * n)) c) k
  | 0, _ => rfl
  | k + 1, hk => by
    show chN f g c k + _ = smN _ k + chgG g _ c k
    rw [chN_is hc k (by omega)]
    unfold chgG
    rw [klv_lt (by omega) hc]
    by_cases e : lvN f c (k + 1) = lvN g c (k + 1)
    · rw [if_neg (fun q => q e), if_pos e.symm]
    · rw [if_pos e, if_neg (fun q => e q.symm)]
theorem ed_good (gf : GoodF f) (hp : p < u (f 0)) (hc : c < 12) (e : edC f p c o b = 0) (hq : ∀ x, o = some x → u x.2 < 4) : GoodF (edR f p c o b) := by
  have h12 := gf.1.1
  have hpl := pl_self gf.1 hp
  refine ⟨?_, fun c2 hc2 => ?_, ?_⟩
  · cases o with
    | some x =>
      rw [← (gvH_ed (old := fun _ => 0) (b := b) (l := x.1) (q := x.2) gf.1 hp hc rfl).2 e]
      exact gvH_inv gf.1 hpl hc (hq x rfl)
    | none =>
      rw [← (tkH_ed (old := fun _ => 0) (b := b) gf.1 hp hc rfl).2 e]
      exact tkH_inv gf.1
  · rw [edR_lo (by omega) (by omega)]
    exact gf.2.1 c2 hc2
  · rw [edR_lo (by omega) (by omega)]
    exact gf.2.2
/-- what set, release and unset answer -/
theorem oG_gi {kk : Nat} (hI : Inv f) (hp : p < u (f 0)) (hc : c < 12) (e : f (18 + 12 * p) = cue) (hkk : kk = 2 ∨ kk = 3) :
    (edC f p c (some (l, q)) b = 0 → ∃ σ2, oG f σ c kk (dGi f (mA (mV σ 7 (Int32.ofNat 0)) 1 f) cue p c l q b) = (0, chN f (edR f p c (some (l, q)) b) c (u (f 0)), edR f p c (some (l, q)) b, σ2) ∧ SgE (chF σ f) σ2) ∧
    (edC f p c (some (l, q)) b ≠ 0 → ∃ σ2, oG f σ c kk (dGi f (mA (mV σ 7 (Int32.ofNat 0)) 1 f) cue p c l q b) = (kk, 0, f, σ2) ∧ SgE (mV σ 6 (Int32.ofNat (edC f p c (some (l, q)) b))) σ2) := by
  obtain ⟨g1, g2⟩ := gvH_ed (old := (mA (mV σ 7 (Int32.ofNat 0)) 1 f).1 8) (b := b) (l := l) (q := q) hI hp hc e
  refine ⟨fun h => ?_, fun h => ?_⟩
  · have g3 := g2 h
    have g4 := gvH_lev (old := (mA (mV σ 7 (Int32.ofNat 0)) 1 f).1 8) (cue := cue) (c := c) (l := l) (q := q) (b := b) (edC_60 h).2.1
    have hD : dGi f (mA (mV σ 7 (Int32.ofNat 0)) 1 f) cue p c l q b = (0, edR f p c (some (l, q)) b, mA (mA (mV σ 7 (Int32.ofNat 0)) 1 f) 8 (klF f ((mA (mV σ 7 (Int32.ofNat 0)) 1 f).1 8) (12 * u (f 0)))) := by
      unfold dGi
      rw [g1, h, if_neg (Nat.lt_irrefl 0), g3, g4]
    have e0 : edR f p c (some (l, q)) b 0 = f 0 := edR_lo (by decide) (by decide)
    refine ⟨chg (mA (mA (mV σ 7 (Int32.ofNat 0)) 1 f) 8 (klF f ((mA (mV σ 7 (Int32.ofNat 0)) 1 f).1 8) (12 * u (f 0)))), ?_, SgE.chg0 (by refine ⟨?_, ?_, ?_, ?_, ?_, ?_, ?_, ?_⟩ <;> simp [mV, mA]) (by simp [mA])⟩
    unfold oG
    rw [hD]
    refine (if_neg (Nat.lt_irrefl 0)).trans ?_
    rw [chN_is (old := (mA (mV σ 7 (Int32.ofNat 0)) 1 f).1 8) hc (u (f 0)) (Nat.le_refl _)]
    dsimp only
    rw [e0]
    rfl
  · have hD : dGi f (mA (mV σ 7 (Int32.ofNat 0)) 1 f) cue p c l q b = (edC f p c (some (l, q)) b, f, mV (mA (mA (mV σ 7 (Int32.ofNat 0)) 1 f) 8 (gvH f ((mA (mV σ 7 (Int32.ofNat 0)) 1 f).1 8) cue p c l q b).2.2) 6 (Int32.ofNat (edC f p c (some (l, q)) b))) := by
      unfold dGi
      rw [g1, if_pos (Nat.pos_of_ne_zero h)]
      rfl
    refine ⟨mV (mV (mA (mA (mV σ 7 (Int32.ofNat 0)) 1 f) 8 (gvH f ((mA (mV σ 7 (Int32.ofNat 0)) 1 f).1 8) cue p c l q b).2.2) 6 (Int32.ofNat (edC f p c (some (l, q)) b))) 7 (Int32.ofNat kk), ?_, ?_⟩
    · unfold oG
      rw [hD]
      exact if_pos (Nat.pos_of_ne_zero h)
    · refine ⟨?_, ?_, ?_, ?_, ?_, ?_, ?_, ?_⟩ <;> simp [mV, mA]
theorem oG_tk {kk : Nat} (hI : Inv f) (hp : p < u (f 0)) (hc : c < 12) (e : f (18 + 12 * p) = cue) (hkk : kk = 2 ∨ kk = 3) :
    (edC f p c none b = 0 → ∃ σ2, oG f σ c kk (dTk f (mA (mV σ 7 (Int32.ofNat 0)) 1 f) cue p c b) = (0, chN f (edR f p c none b) c (u (f 0)), edR f p c none b, σ2) ∧ SgE (chF σ f) σ2) ∧
    (edC f p c none b ≠ 0 → ∃ σ2, oG f σ c kk (dTk f (mA (mV σ 7 (Int32.ofNat 0)) 1 f) cue p c b) = (kk, 0, f, σ2) ∧ SgE (mV σ 6 (Int32.ofNat (edC f p c none b))) σ2) := by
  obtain ⟨g1, g2⟩ := tkH_ed (old := (mA (mV σ 7 (Int32.ofNat 0)) 1 f).1 8) (b := b) hI hp hc e
  refine ⟨fun h => ?_, fun h => ?_⟩
  · have g3 := g2 h
    have g4 := tkH_lev (old := (mA (mV σ 7 (Int32.ofNat 0)) 1 f).1 8) (cue := cue) (c := c) (b := b) (edC_60 h).2.1 (fun q => (edC_60 h).2.2 ⟨rfl, by rw [e]; exact q⟩)
    have hD : dTk f (mA (mV σ 7 (Int32.ofNat 0)) 1 f) cue p c b = (0, edR f p c none b, mA (mA (mV σ 7 (Int32.ofNat 0)) 1 f) 8 (klF f ((mA (mV σ 7 (Int32.ofNat 0)) 1 f).1 8) (12 * u (f 0)))) := by
      unfold dTk
      rw [g1, h, if_neg (Nat.lt_irrefl 0), g3, g4]
    have e0 : edR f p c none b 0 = f 0 := edR_lo (by decide) (by decide)
    refine ⟨chg (mA (mA (mV σ 7 (Int32.ofNat 0)) 1 f) 8 (klF f ((mA (mV σ 7 (Int32.ofNat 0)) 1 f).1 8) (12 * u (f 0)))), ?_, SgE.chg0 (by refine ⟨?_, ?_, ?_, ?_, ?_, ?_, ?_, ?_⟩ <;> simp [mV, mA]) (by simp [mA])⟩
    unfold oG
    rw [hD]
    refine (if_neg (Nat.lt_irrefl 0)).trans ?_
    rw [chN_is (old := (mA (mV σ 7 (Int32.ofNat 0)) 1 f).1 8) hc (u (f 0)) (Nat.le_refl _)]
    dsimp only
    rw [e0]
    rfl
  · have hD : dTk f (mA (mV σ 7 (Int32.ofNat 0)) 1 f) cue p c b = (edC f p c none b, f, mV (mA (mA (mV σ 7 (Int32.ofNat 0)) 1 f) 8 (tkH f ((mA (mV σ 7 (Int32.ofNat 0)) 1 f).1 8) cue p c b).2.2) 6 (Int32.ofNat (edC f p c none b))) := by
      unfold dTk
      rw [g1, if_pos (Nat.pos_of_ne_zero h)]
      rfl
    refine ⟨mV (mV (mA (mA (mV σ 7 (Int32.ofNat 0)) 1 f) 8 (tkH f ((mA (mV σ 7 (Int32.ofNat 0)) 1 f).1 8) cue p c b).2.2) 6 (Int32.ofNat (edC f p c none b))) 7 (Int32.ofNat kk), ?_, ?_⟩
    · unfold oG
      rw [hD]
      exact if_pos (Nat.pos_of_ne_zero h)
    · refine ⟨?_, ?_, ?_, ?_, ?_, ?_, ?_, ?_⟩ <;> simp [mV, mA]
end EDPL
