/-! ===== TreeNode: removeTreeNode, the swap ===== -/
/-- the links after p and s have changed their places -/
def SwF (F F4 : Nat → Nat → Value) (B : List Nat) (p s pl pr : Nat) (L R P : Nat → Option Nat) (C : Nat → Bool) : Prop := ∀ w, w ∈ B →
  F4 w 6 = (if w = p then (if s = pr then .ref s else va_rf (P s)) else if w = s then va_rf (P p) else if w = pl then .ref s else if w = pr then .ref s else if R s = some w then .ref p else F w 6) ∧
  F4 w 7 = (if w = p then .null else if w = s then .ref pl else if P p = some w ∧ L w = some p then .ref s else if s ≠ pr ∧ P s = some w then .ref p else F w 7) ∧
  F4 w 8 = (if w = s then (if s = pr then .ref p else .ref pr) else if w = p then va_rf (R s) else if P p = some w ∧ ¬ L w = some p then .ref s else F w 8) ∧
  F4 w 10 = (if w = p then .int (bI (C s)) else if w = s then .int (bI (C p)) else F w 10)
section REMOVE2
variable {G : GG} {d n : Nat} {h h2 : AH} {F F0 F2 F3 : Nat → Nat → Value} {S : Nat → Prop} {κ key : Nat → Nat} {tb bi k p q x c s pl pr root m r0 : Nat} {B B1 a b ns : List Nat} {mv : Bool} {v4 v5 v6 v7 v8 v9 v10 v11 v12 v13 v14 v15 v16 v17 v18 v19 v20 : Value} {L R P : Nat → Option Nat} {C : Nat → Bool} {lo hi rk : Nat → Nat} {top M : Nat}
theorem SwF.tl {F4 : Nat → Nat → Value} (sw : SwF F F4 B p s pl pr L R P C) (t : T0 (· ∈ B) key root L R P lo hi rk top M) (tl : TL h F (· ∈ B) L R P C) (hp : p ∈ B) (hs : s ∈ B) (hps : p ≠ s) (hl : L p = some pl) (hr : R p = some pr) (hsl : L s = none) (hlo : lo s = key p + 1) (hside : s = pr ∨ ∃ z, P s = some z ∧ L z = some s ∧ z ≠ p) :
    TL h F4 (· ∈ B) (fun z => (L (swz p s z)).map (swz p s)) (fun z => (R (swz p s z)).map (swz p s)) (fun z => (P (swz p s z)).map (swz p s)) (fun z => C (swz p s z)) := by
  intro w hw
  obtain ⟨f6, f7, f8, f10⟩ := sw w hw
  obtain ⟨w1, w2, w3, w4, w5⟩ := tl w hw
  have hcl : ∀ q z, q ∈ B → L q = some z → P z = some q ∧ q ≠ z := fun q z hq h => ⟨(t.lc hq h).2.1, Ne.symm (t.lc hq h).2.2.2⟩
  have hcr : ∀ q z, q ∈ B → R q = some z → P z = some q ∧ q ≠ z := fun q z hq h => ⟨(t.rc hq h).2.1, Ne.symm (t.rc hq h).2.2.2⟩
  have hup : ∀ q z, q ∈ B → P q = some z → z ∈ B ∧ z ≠ q ∧ (L z = some q ∨ R z = some q) := fun q z hq h => by
    obtain ⟨a1, -, a3, a4⟩ := t.up hq h
    exact ⟨a1, Ne.symm a3, a4⟩
  have hlr := t.sib hp hl hr
  have hpl := hcl p pl hp hl
  have hpr := hcr p pr hp hr
  have hpu := hup p
  have hsu := hup s
  have hPs : ¬ P p = some s := fun h9 => by
    have h1 := t.2 p hp
    have h2 := t.2 s hs
    rcases (t.up hp h9).2.2.2 with h3 | h3
    · have := h2.2.2.1 p h3; omega
    · have := h2.2.2.2.1 p h3; omega
  have hsb : ∀ q z, q ∈ B → L q = some z → R q = some z → False := fun q z hq h1 h2 => t.sib hq h1 h2 rfl
  clear sw tl t
  refine ⟨w1, ?_, ?_, ?_, ?_⟩ <;> dsimp only
  · rw [f6]
    by_cases e1 : w = p
    · subst e1
      have : swz w s w = s := by simp [swz]
      rw [this, if_pos rfl]
      rcases hside with rfl | ⟨z, g1, g2, g3⟩
      · rw [if_pos rfl, hpr.1]
        simp [swz, va_rf]
      · have hz9 : s ≠ pr := by rintro rfl; rw [hpr.1] at g1; exact g3 (Option.some.inj g1).symm
        have := (hsu z hs g1).2.1
        rw [if_neg hz9, g1]
        simp [swz, g3, this]
    · by_cases e2 : w = s
      · subst e2
        have : swz p w w = p := by simp [swz, e1]
        rw [this, if_neg e1, if_pos rfl]
        cases h9 : P p with
        | none => rfl
        | some z =>
          have h8 := hpu z hp h9
          have : z ≠ w := by
            rintro rfl
            exact hPs h9
          simp [swz, h8.2.1, this]
      · have : swz p s w = w := by simp [swz, e1, e2]
        rw [this, if_neg e1, if_neg e2]
        by_cases e3 : w = pl
        · rw [if_pos e3, e3, hpl.1]; simp [swz, va_rf]
        · rw [if_neg e3]
          by_cases e4 : w = pr
          · rw [if_pos e4, e4, hpr.1]; simp [swz, va_rf]
          · rw [if_neg e4]
            by_cases e5 : R s = some w
            · rw [if_pos e5, (hcr s w hs e5).1]; simp [swz, va_rf, Ne.symm hps]
            · rw [if_neg e5, w2]
              cases h9 : P w with
              | none => rfl
              | some z =>
                have h8 := hup w z hw h9
                have g1 : z ≠ p := by rintro rfl; grind
                have g2 : z ≠ s := by rintro rfl; grind
                simp [swz, g1, g2]
  · rw [f7]
    by_cases e1 : w = p
    · subst e1
      have : swz w s w = s := by simp [swz]
      rw [this, hsl, if_pos rfl]; rfl
    · by_cases e2 : w = s
      · subst e2
        have : swz p w w = p := by simp [swz, e1]
        have h8 : pl ≠ w := by
          rintro rfl
          rcases hside with h | ⟨z, g1, g2, g3⟩
          · exact hlr h
          · rw [hpl.1] at g1; exact g3 (Option.some.inj g1).symm
        rw [this, if_neg e1, if_pos rfl, hl]; simp [swz, va_rf, Ne.symm hpl.2, h8]
      · have : swz p s w = w := by simp [swz, e1, e2]
        rw [this, if_neg e1, if_neg e2]
        by_cases e3 : P p = some w ∧ L w = some p
        · rw [if_pos e3, e3.2]; simp [swz, va_rf]
        · rw [if_neg e3]
          by_cases e4 : s ≠ pr ∧ P s = some w
          · rcases hside with h | ⟨z, g1, g2, g3⟩
            · exact absurd h e4.1
            · rw [e4.2] at g1
              cases g1
              rw [if_pos e4, g2]; simp [swz, va_rf, Ne.symm hps]
          · rw [if_neg e4, w3]
            cases h9 : L w with
            | none => rfl
            | some z =>
              have h8 := hcl w z hw h9
              have g1 : z ≠ p := by rintro rfl; grind
              have g2 : z ≠ s := by
                rintro rfl
                rcases hside with h | ⟨y, g1, g2, g3⟩
                · rw [h] at h8; rw [hpr.1] at h8; exact e1 (Option.some.inj h8.1).symm
                · refine e4 ⟨?_, h8.1⟩
                  rintro rfl
                  rw [hpr.1] at g1
                  exact g3 (Option.some.inj g1).symm
              simp [swz, g1, g2]
  · rw [f8]
    by_cases e2 : w = s
    · subst e2
      have : swz p w w = p := by simp [swz, Ne.symm hps]
      rw [this, if_pos rfl, hr]
      by_cases h9 : w = pr
      · rw [if_pos h9, ← h9]; simp [swz, va_rf, Ne.symm hps]
      · rw [if_neg h9]; simp [swz, va_rf, Ne.symm hpr.2, Ne.symm h9]
    · rw [if_neg e2]
      by_cases e1 : w = p
      · subst e1
        have : swz w s w = s := by simp [swz]
        rw [this, if_pos rfl]
        cases h9 : R s with
        | none => rfl
        | some z =>
          have h8 := hcr s z hs h9
          have g1 : z ≠ w := by
            rintro rfl
            exact hPs h8.1
          simp [swz, g1, Ne.symm h8.2]
      · have : swz p s w = w := by simp [swz, e1, e2]
        rw [this, if_neg e1]
        by_cases e3 : P p = some w ∧ ¬ L w = some p
        · have := (hpu w hp e3.1).2.2.resolve_left e3.2
          rw [if_pos e3, this]; simp [swz, va_rf]
        · rw [if_neg e3, w4]
          cases h9 : R w with
          | none => rfl
          | some z =>
            have h8 := hcr w z hw h9
            have g1 : z ≠ p := by
              rintro rfl
              exact e3 ⟨h8.1, fun h7 => hsb w _ hw h7 h9⟩
            have g2 : z ≠ s := by
              rintro rfl
              rcases hside with h | ⟨y, g1, g2, g3⟩
              · rw [h, hpr.1] at h8; exact e1 (Option.some.inj h8.1).symm
              · rw [h8.1] at g1
                cases g1
                exact hsb w _ hw g2 h9
            simp [swz, g1, g2]
  · rw [f10]
    by_cases e1 : w = p
    · subst e1; rw [if_pos rfl]; simp [swz]
    · by_cases e2 : w = s
      · subst e2; rw [if_neg e1, if_pos rfl]; simp [swz, e1]
      · rw [if_neg e1, if_neg e2, w5]; simp [swz, e1, e2]
theorem rt_203 (hd : 3 ≤ d) (c6 : v6.category = 1) (hB : B = a ++ p :: b) (hn : B.Nodup) (hinj : ∀ a b, a ∈ B → b ∈ B → κ a = κ b → a = b)
    (t : T0 (· ∈ B) κ root L R P lo hi rk 1200 M) (tl : TL h F (· ∈ B) L R P C) (hl : L p = some pl) (hr : R p = some pr) (hs : s ∈ B) (hsl : L s = none) (hlo : lo s = κ p + 1) {Q : RR → AH → Prop}
    (KQ : ∀ (F6 : Nat → Nat → Value) (r0 : Nat) (v4 v5 v6 v7 v8 v9 v10 v11 v12 v13 v14 v16 v17 v18 v19 v20 : Value), TrB h F6 (· ∈ a ++ b) κ r0 1200 → FrP (fun z j => z ∈ B ∧ (j = 6 ∨ j = 7 ∨ j = 8 ∨ j = 10)) F F6 → WA G d mJ26_removeTreeNode 626 [.ref p, .ref m, .ref tb, .int (bI mv), v4, v5, v6, v7, v8, v9, v10, v11, v12, v13, v14, .ref r0, v16, v17, v18, v19, v20] [] (sF h F6) Q)
    (c16 : v16.category = 1) (c18 : v18.category = 1) :
    WA G d mJ26_removeTreeNode 203 [.ref p, .ref m, .ref tb, .int (bI mv), v4, v5, v6, .ref root, v8, v9, v10, .ref p, .ref pl, .ref pr, v14, .ref s, v16, v17, v18, v19, v20] [] (sF h F) Q := by
  have hp : p ∈ B := by rw [hB]; simp
  have hps : p ≠ s := by rintro rfl; have := t.2 p hp; omega
  obtain ⟨p1, p2, p3, p4, p5⟩ := tl p hp
  obtain ⟨s1, s2, s3, s4, s5⟩ := tl s hs
  obtain ⟨hlB, hlP, hlr, hlp⟩ := t.lc hp hl
  obtain ⟨hrB, hrP, hrr, hrp⟩ := t.rc hp hr
  obtain ⟨l1, l2, l3, l4, l5⟩ := tl pl hlB
  obtain ⟨r1, r2, r3, r4, r5⟩ := tl pr hrB
  have hlr9 := t.sib hp hl hr
  have tp := t.2 p hp
  have ts := t.2 s hs
  have hls : pl ≠ s := by rintro rfl; have := tp.2.2.1 _ hl; omega
  have hside : s = pr ∨ ∃ z, P s = some z ∧ L z = some s ∧ z ≠ p := by
    cases h : P s with
    | none => have := ts.2.1 h; omega
    | some z =>
      obtain ⟨h1, h2, h3, h4⟩ := t.up hs h
      have tz := t.2 z h1
      rcases h4 with h4 | h4
      · refine Or.inr ⟨z, rfl, h4, ?_⟩
        rintro rfl
        rw [hl] at h4
        exact hls (Option.some.inj h4)
      · have h5 := tz.2.2.2.1 _ h4
        have : z = p := hinj z p h1 hp (by omega)
        subst this
        rw [hr] at h4
        exact Or.inl (Option.some.inj h4).symm
  obtain ⟨lo2, hi2, rk2, t2⟩ := t.swap hinj hp hs hsl hlo
  have hsr : root ≠ s := by rintro rfl; have := ts.2.1 t.1.2; omega
  have hroot : swz p s root = (if P p = none then s else root) := by
    cases h9 : P p with
    | none => have := (tp.2.1 h9).1; subst this; simp [swz]
    | some z =>
      have : root ≠ p := by rintro rfl; rw [t.1.2] at h9; cases h9
      simp [swz, this, hsr]
  have hsrR : ∀ z, R s = some z → z ∈ B ∧ z ≠ s ∧ z ≠ p ∧ P z = some s := fun z hz => by
    obtain ⟨a1, a2, a3, a4⟩ := t.rc hs hz
    refine ⟨a1, a4, ?_, a2⟩
    rintro rfl
    have := ts.2.2.2.1 _ hz
    omega
  have fin : ∀ (F4 : Nat → Nat → Value) (c : Nat) (v16 v17 v18 v19 v20 : Value), c = (R s).getD p → SwF F F4 B p s pl pr L R P C → FrP (fun z j => z ∈ B ∧ (j = 6 ∨ j = 7 ∨ j = 8 ∨ j = 10)) F F4 →
      WA G d mJ26_removeTreeNode 462 [.ref p, .ref m, .ref tb, .int (bI mv), v4, v5, v6, .ref (if P p = none then s else root), v8, v9, v10, .ref p, .ref pl, .ref pr, .ref c, .ref s, v16, v17, v18, v19, v20] [] (sF h F4) Q := by
    intro F4 c v16 v17 v18 v19 v20 hc sw fr
    have tl4 := sw.tl t tl hp hs hps hl hr hsl hlo hside
    rw [← hroot]
    have e : ∀ z, z ∈ B → z ≠ p → swK κ p s z = 2 * κ z := fun z _ hz => by simp [swK, hz]
    have hinj2 : ∀ a b, a ∈ B → b ∈ B → swK κ p s a = swK κ p s b → a = b := fun a b ha hb => by
      have := hinj a b ha hb
      unfold swK
      split <;> split <;> intros <;> first | (apply this; omega) | omega
    have hL' : (L (swz p s p)).map (swz p s) = none := by simp [swz, hsl]
    cases hR : R s with
    | none =>
      rw [hR] at hc
      simp at hc
      subst hc
      have hR' : (R (swz c s c)).map (swz c s) = none := by simp [swz, hR]
      refine wa_aloadV (pc := 462) (y := mJ26_removeTreeNode) dJ26_removeTreeNode_462 rfl (by first | exact rf_s _ | exact rf_n | exact rf_q _) ?_
      refine wa_aloadV (pc := 464) (y := mJ26_removeTreeNode) dJ26_removeTreeNode_464 rfl (by first | exact rf_s _ | exact rf_n | exact rf_q _) ?_
      refine wa_aceqV (pc := 466) 544 dJ26_removeTreeNode_466 rfl (by first | exact rf_s _ | exact rf_n | exact rf_q _) (by first | exact rf_s _ | exact rf_n | exact rf_q _) (fun hb466 => ?_) (fun hb466 => absurd rfl hb466)
      exact rt_544B hd hB hn ⟨s, hs, Ne.symm hps⟩ e hinj2 t2 tl4 hL' hR' (fun F6 r0 v14 v16 g1 g2 => KQ F6 r0 _ _ _ _ _ _ _ _ _ _ v14 v16 _ _ _ _ g1 (fr.trans g2))
    | some z =>
      rw [hR] at hc
      simp at hc
      subst hc
      obtain ⟨a1, a2, a3, a4⟩ := hsrR c hR
      have hR' : (R (swz p s p)).map (swz p s) = some c := by simp [swz, hR, a2, a3]
      exact rt_462R hd c6 hB hn e hinj2 t2 tl4 hL' hR' (fun F6 r0 v7 v14 v16 v15 g1 g2 => KQ F6 r0 _ _ _ v7 _ _ _ _ _ _ v14 v16 _ _ _ _ g1 (fr.trans g2))
  have hup : ∀ z, P p = some z → z ∈ B ∧ z ≠ p ∧ z ≠ s ∧ z ≠ pl ∧ z ≠ pr ∧ rk z < rk p := fun z hz => by
    obtain ⟨a1, a2, a3, a4⟩ := t.up hp hz
    refine ⟨a1, Ne.symm a3, ?_, ?_, ?_, a2⟩
    · rintro rfl
      rcases a4 with h3 | h3
      · have := ts.2.2.1 p h3; omega
      · have := ts.2.2.2.1 p h3; omega
    · rintro rfl; omega
    · rintro rfl; omega
  have hsp : ∀ z, P s = some z → z ∈ B ∧ z ≠ s := fun z hz => by
    obtain ⟨a1, a2, a3, a4⟩ := t.up hs hz
    exact ⟨a1, Ne.symm a3⟩
  have finA : ∀ (F4 : Nat → Nat → Value) (c : Nat) (v16 v17 v18 v19 v20 : Value), c = (R s).getD p → P p = none → SwF F F4 B p s pl pr L R P C → FrP (fun z j => z ∈ B ∧ (j = 6 ∨ j = 7 ∨ j = 8 ∨ j = 10)) F F4 →
      WA G d mJ26_removeTreeNode 462 [.ref p, .ref m, .ref tb, .int (bI mv), v4, v5, v6, .ref s, v8, v9, v10, .ref p, .ref pl, .ref pr, .ref c, .ref s, v16, v17, v18, v19, v20] [] (sF h F4) Q := fun F4 c v16 v17 v18 v19 v20 h1 h2 h3 h4 => by
    have := fin F4 c v16 v17 v18 v19 v20 h1 h3 h4
    rw [if_pos h2] at this
    exact this
  have finB : ∀ (F4 : Nat → Nat → Value) (c : Nat) (v16 v17 v18 v19 v20 : Value) {z : Nat}, c = (R s).getD p → P p = some z → SwF F F4 B p s pl pr L R P C → FrP (fun z j => z ∈ B ∧ (j = 6 ∨ j = 7 ∨ j = 8 ∨ j = 10)) F F4 →
      WA G d mJ26_removeTreeNode 462 [.ref p, .ref m, .ref tb, .int (bI mv), v4, v5, v6, .ref root, v8, v9, v10, .ref p, .ref pl, .ref pr, .ref c, .ref s, v16, v17, v18, v19, v20] [] (sF h F4) Q := fun F4 c v16 v17 v18 v19 v20 z h1 h2 h3 h4 => by
    have := fin F4 c v16 v17 v18 v19 v20 h1 h3 h4
    rw [h2, if_neg (by simp)] at this
    exact this
  have hrT : ∀ w, w ∈ B → (R s = some w → w ≠ pl ∧ w ≠ pr) := fun w hw h9 => by
    have h8 := (hsrR w h9).2.2.2
    refine ⟨?_, ?_⟩ <;> rintro rfl
    · rw [hlP] at h8; exact hps (Option.some.inj h8)
    · rw [hrP] at h8; exact hps (Option.some.inj h8)
  have hI : ∀ z, z ∈ B → Is h z 14 11 := fun z hz => (tl z hz).1
  have hpsp : ∀ z w, P p = some z → P s = some w → s ≠ pr → z ≠ w := fun z w h1 h2 h3 => by
    rcases hside with h9 | ⟨y, g1, g2, g3⟩
    · exact absurd h9 h3
    · rw [h2] at g1
      cases g1
      have h4 := (t.2 w (hsp w h2).1).2.2.1 s g2
      have h5 := t.2 z (hup z h1).1
      rcases (t.up hp h1).2.2.2 with h6 | h6
      · have := h5.2.2.1 p h6
        rintro rfl
        omega
      · have := h5.2.2.2.1 p h6
        rintro rfl
        omega
  clear t2 KQ fin
  refine wa_aloadV (pc := 203) (y := mJ26_removeTreeNode) dJ26_removeTreeNode_203 rfl (by first | exact rf_s _ | exact rf_n | exact rf_q _) ?_
  refine wf_get (k := 14) (l := 11) 10 dJ26_removeTreeNode_205 (by assumption) rfl q1619 (Or.inl rfl) (Nat.le_of_ble_eq_true rfl) (Nat.le_of_ble_eq_true rfl) (by (repeat (first | exact updF_self _ _ _ _ | (apply updF_i; · decide) | (apply updF_a; · first | assumption | (apply Ne.symm; assumption) | omega) | (apply newF_a; · first | assumption | (apply Ne.symm; assumption) | omega) | exact newL_self (by rfl) | exact newF_self (by rfl) | (apply cpyF_a; · first | assumption | (apply Ne.symm; assumption) | omega))) <;> first | assumption | rfl) ?_
  refine wa_istore (pc := 208) (y := mJ26_removeTreeNode) dJ26_removeTreeNode_208 (Nat.le_of_ble_eq_true rfl) (by first | rfl | (simp [okst, rf_cat] <;> assumption)) ?_
  simp only [List.set_cons_zero, List.set_cons_succ]
  refine wa_aloadV (pc := 210) (y := mJ26_removeTreeNode) dJ26_removeTreeNode_210 rfl (by first | exact rf_s _ | exact rf_n | exact rf_q _) ?_
  refine wa_aloadV (pc := 212) (y := mJ26_removeTreeNode) dJ26_removeTreeNode_212 rfl (by first | exact rf_s _ | exact rf_n | exact rf_q _) ?_
  refine wf_get (k := 14) (l := 11) 10 dJ26_removeTreeNode_214 (by assumption) rfl q1619 (Or.inl rfl) (Nat.le_of_ble_eq_true rfl) (Nat.le_of_ble_eq_true rfl) (by (repeat (first | exact updF_self _ _ _ _ | (apply updF_i; · decide) | (apply updF_a; · first | assumption | (apply Ne.symm; assumption) | omega) | (apply newF_a; · first | assumption | (apply Ne.symm; assumption) | omega) | exact newL_self (by rfl) | exact newF_self (by rfl) | (apply cpyF_a; · first | assumption | (apply Ne.symm; assumption) | omega))) <;> first | assumption | rfl) ?_
  refine wf_put (k := 14) (l := 11) 10 .boolean dJ26_removeTreeNode_217 (by assumption) rfl q1619 (Or.inl rfl) (Nat.le_of_ble_eq_true rfl) rfl (by decide +kernel) (by first | rfl | exact bI_nar _) (by first | rfl | exact bI_fit _) ?_
  refine wa_aloadV (pc := 220) (y := mJ26_removeTreeNode) dJ26_removeTreeNode_220 rfl (by first | exact rf_s _ | exact rf_n | exact rf_q _) ?_
  refine wa_iload (pc := 222) (y := mJ26_removeTreeNode) dJ26_removeTreeNode_222 rfl ?_
  refine wf_put (k := 14) (l := 11) 10 .boolean dJ26_removeTreeNode_224 (by assumption) rfl q1619 (Or.inl rfl) (Nat.le_of_ble_eq_true rfl) rfl (by decide +kernel) (by first | rfl | exact bI_nar _) (by first | rfl | exact bI_fit _) ?_
  refine wa_aloadV (pc := 227) (y := mJ26_removeTreeNode) dJ26_removeTreeNode_227 rfl (by first | exact rf_s _ | exact rf_n | exact rf_q _) ?_
  refine wf_get (k := 14) (l := 11) 8 dJ26_removeTreeNode_229 (by assumption) rfl q1616 (Or.inl rfl) (Nat.le_of_ble_eq_true rfl) (Nat.le_of_ble_eq_true rfl) (by (repeat (first | exact updF_self _ _ _ _ | (apply updF_i; · decide) | (apply updF_a; · first | assumption | (apply Ne.symm; assumption) | omega) | (apply newF_a; · first | assumption | (apply Ne.symm; assumption) | omega) | exact newL_self (by rfl) | exact newF_self (by rfl) | (apply cpyF_a; · first | assumption | (apply Ne.symm; assumption) | omega))) <;> first | assumption | rfl) ?_
  refine wa_astoreV (pc := 232) (y := mJ26_removeTreeNode) dJ26_removeTreeNode_232 (Nat.le_of_ble_eq_true rfl) (by first | rfl | (simp [okst, rf_cat] <;> assumption)) (by first | exact rf_s _ | exact rf_n | exact rf_q _) ?_
  simp only [List.set_cons_zero, List.set_cons_succ]
  refine wa_aloadV (pc := 234) (y := mJ26_removeTreeNode) dJ26_removeTreeNode_234 rfl (by first | exact rf_s _ | exact rf_n | exact rf_q _) ?_
  refine wf_get (k := 14) (l := 11) 6 dJ26_removeTreeNode_236 (by assumption) rfl q1614 (Or.inl rfl) (Nat.le_of_ble_eq_true rfl) (Nat.le_of_ble_eq_true rfl) (by (repeat (first | exact updF_self _ _ _ _ | (apply updF_i; · decide) | (apply updF_a; · first | assumption | (apply Ne.symm; assumption) | omega) | (apply newF_a; · first | assumption | (apply Ne.symm; assumption) | omega) | exact newL_self (by rfl) | exact newF_self (by rfl) | (apply cpyF_a; · first | assumption | (apply Ne.symm; assumption) | omega))) <;> first | assumption | rfl) ?_
  refine wa_astoreV (pc := 239) (y := mJ26_removeTreeNode) dJ26_removeTreeNode_239 (Nat.le_of_ble_eq_true rfl) (by first | rfl | (simp [okst, rf_cat] <;> assumption)) (by first | exact rf_s _ | exact rf_n | exact rf_q _) ?_
  simp only [List.set_cons_zero, List.set_cons_succ]
  refine wa_aloadV (pc := 241) (y := mJ26_removeTreeNode) dJ26_removeTreeNode_241 rfl (by first | exact rf_s _ | exact rf_n | exact rf_q _) ?_
  refine wa_aloadV (pc := 243) (y := mJ26_removeTreeNode) dJ26_removeTreeNode_243 rfl (by first | exact rf_s _ | exact rf_n | exact rf_q _) ?_
  refine wa_acneV (pc := 245) 265 dJ26_removeTreeNode_245 rfl (by first | exact rf_s _ | exact rf_n | exact rf_q _) (by first | exact rf_s _ | exact rf_n | exact rf_q _) (fun hb245 => ?_) (fun hb245 => ?_)
  · have hnpr : s ≠ pr := fun e => hb245 (by rw [e])
    refine wa_aloadV (pc := 265) (y := mJ26_removeTreeNode) dJ26_removeTreeNode_265 rfl (by first | exact rf_s _ | exact rf_n | exact rf_q _) ?_
    refine wf_get (k := 14) (l := 11) 6 dJ26_removeTreeNode_267 (by assumption) rfl q1614 (Or.inl rfl) (Nat.le_of_ble_eq_true rfl) (Nat.le_of_ble_eq_true rfl) (by (repeat (first | exact updF_self _ _ _ _ | (apply updF_i; · decide) | (apply updF_a; · first | assumption | (apply Ne.symm; assumption) | omega) | (apply newF_a; · first | assumption | (apply Ne.symm; assumption) | omega) | exact newL_self (by rfl) | exact newF_self (by rfl) | (apply cpyF_a; · first | assumption | (apply Ne.symm; assumption) | omega))) <;> first | assumption | rfl) ?_
    refine wa_astoreV (pc := 270) (y := mJ26_removeTreeNode) dJ26_removeTreeNode_270 (Nat.le_of_ble_eq_true rfl) (by first | rfl | (simp [okst, rf_cat] <;> assumption)) (by first | exact rf_s _ | exact rf_n | exact rf_q _) ?_
    simp only [List.set_cons_zero, List.set_cons_succ]
    refine wa_aloadV (pc := 272) (y := mJ26_removeTreeNode) dJ26_removeTreeNode_272 rfl (by first | exact rf_s _ | exact rf_n | exact rf_q _) ?_
    refine wa_aloadV (pc := 274) (y := mJ26_removeTreeNode) dJ26_removeTreeNode_274 rfl (by first | exact rf_s _ | exact rf_n | exact rf_q _) ?_
    refine wa_dup_x1 (pc := 276) (y := mJ26_removeTreeNode) dJ26_removeTreeNode_276 (by first | rfl | exact rf_cat _) (by first | rfl | exact rf_cat _) ?_
    refine wf_put (k := 14) (l := 11) 6 (.object "java/util/HashMap$TreeNode") dJ26_removeTreeNode_277 (by assumption) rfl q1614 (Or.inl rfl) (Nat.le_of_ble_eq_true rfl) rfl (by decide +kernel) (by first | rfl | exact rf_nar _ | exact rf_nar2 _) (by first | rfl | exact rf_fit _ | exact rf_fit2 _) ?_
    refine wa_ifnullV (pc := 280) 310 dJ26_removeTreeNode_280 rfl (by first | exact rf_s _ | exact rf_n | exact rf_q _) (fun hb280 => absurd hb280 (by rcases hside with h9 | ⟨z, g1, g2, g3⟩; exact absurd h9 hnpr; rw [g1]; simp)) (fun a280 hb280 => ?_)
    have h280 := hsp _ hb280
    have hI280 := hI _ h280.1
    have hl280 : L a280 = some s := by rcases hside with h9 | ⟨z, g1, g2, g3⟩; exact absurd h9 hnpr; rw [hb280] at g1; cases g1; exact g2
    obtain ⟨y1, y2, y3, y4, y5⟩ := tl a280 h280.1
    rw [hb280]
    refine wa_aloadV (pc := 283) (y := mJ26_removeTreeNode) dJ26_removeTreeNode_283 rfl (by first | exact rf_s _ | exact rf_n | exact rf_q _) ?_
    refine wa_aloadV (pc := 285) (y := mJ26_removeTreeNode) dJ26_removeTreeNode_285 rfl (by first | exact rf_s _ | exact rf_n | exact rf_q _) ?_
    refine wf_get (k := 14) (l := 11) 7 dJ26_removeTreeNode_287 (by assumption) rfl q1615 (Or.inl rfl) (Nat.le_of_ble_eq_true rfl) (Nat.le_of_ble_eq_true rfl) (by (repeat (first | exact updF_self _ _ _ _ | (apply updF_i; · decide) | (apply updF_a; · first | assumption | (apply Ne.symm; assumption) | omega) | (apply newF_a; · first | assumption | (apply Ne.symm; assumption) | omega) | exact newL_self (by rfl) | exact newF_self (by rfl) | (apply cpyF_a; · first | assumption | (apply Ne.symm; assumption) | omega))) <;> first | assumption | rfl) ?_
    refine wa_acneV (pc := 290) 303 dJ26_removeTreeNode_290 rfl (by first | exact rf_s _ | exact rf_n | exact rf_q _) (by first | exact rf_s _ | exact rf_n | exact rf_q _) (fun hb290 => absurd hl280.symm hb290) (fun hb290 => ?_)
    refine wa_aloadV (pc := 293) (y := mJ26_removeTreeNode) dJ26_removeTreeNode_293 rfl (by first | exact rf_s _ | exact rf_n | exact rf_q _) ?_
    refine wa_aloadV (pc := 295) (y := mJ26_removeTreeNode) dJ26_removeTreeNode_295 rfl (by first | exact rf_s _ | exact rf_n | exact rf_q _) ?_
    refine wf_put (k := 14) (l := 11) 7 (.object "java/util/HashMap$TreeNode") dJ26_removeTreeNode_297 (by assumption) rfl q1615 (Or.inl rfl) (Nat.le_of_ble_eq_true rfl) rfl (by decide +kernel) (by first | rfl | exact rf_nar _ | exact rf_nar2 _) (by first | rfl | exact rf_fit _ | exact rf_fit2 _) ?_
    refine wa_goto (pc := 300) (y := mJ26_removeTreeNode) 310 dJ26_removeTreeNode_300 rfl ?_
    refine wa_aloadV (pc := 310) (y := mJ26_removeTreeNode) dJ26_removeTreeNode_310 rfl (by first | exact rf_s _ | exact rf_n | exact rf_q _) ?_
    refine wa_aloadV (pc := 312) (y := mJ26_removeTreeNode) dJ26_removeTreeNode_312 rfl (by first | exact rf_s _ | exact rf_n | exact rf_q _) ?_
    refine wa_dup_x1 (pc := 314) (y := mJ26_removeTreeNode) dJ26_removeTreeNode_314 (by first | rfl | exact rf_cat _) (by first | rfl | exact rf_cat _) ?_
    refine wf_put (k := 14) (l := 11) 8 (.object "java/util/HashMap$TreeNode") dJ26_removeTreeNode_315 (by assumption) rfl q1616 (Or.inl rfl) (Nat.le_of_ble_eq_true rfl) rfl (by decide +kernel) (by first | rfl | exact rf_nar _ | exact rf_nar2 _) (by first | rfl | exact rf_fit _ | exact rf_fit2 _) ?_
    refine wa_ifnull (pc := 318) (y := mJ26_removeTreeNode) dJ26_removeTreeNode_318 ?_
    refine wa_aloadV (pc := 321) (y := mJ26_removeTreeNode) dJ26_removeTreeNode_321 rfl (by first | exact rf_s _ | exact rf_n | exact rf_q _) ?_
    refine wa_aloadV (pc := 323) (y := mJ26_removeTreeNode) dJ26_removeTreeNode_323 rfl (by first | exact rf_s _ | exact rf_n | exact rf_q _) ?_
    refine wf_put (k := 14) (l := 11) 6 (.object "java/util/HashMap$TreeNode") dJ26_removeTreeNode_325 (by assumption) rfl q1614 (Or.inl rfl) (Nat.le_of_ble_eq_true rfl) rfl (by decide +kernel) (by first | rfl | exact rf_nar _ | exact rf_nar2 _) (by first | rfl | exact rf_fit _ | exact rf_fit2 _) ?_
    refine wa_aloadV (pc := 328) (y := mJ26_removeTreeNode) dJ26_removeTreeNode_328 rfl (by first | exact rf_s _ | exact rf_n | exact rf_q _) ?_
    refine wa_null (pc := 330) (y := mJ26_removeTreeNode) dJ26_removeTreeNode_330 ?_
    refine wf_put (k := 14) (l := 11) 7 (.object "java/util/HashMap$TreeNode") dJ26_removeTreeNode_331 (by assumption) rfl q1615 (Or.inl rfl) (Nat.le_of_ble_eq_true rfl) rfl (by decide +kernel) (by first | rfl | exact rf_nar _ | exact rf_nar2 _) (by first | rfl | exact rf_fit _ | exact rf_fit2 _) ?_
    refine wa_aloadV (pc := 334) (y := mJ26_removeTreeNode) dJ26_removeTreeNode_334 rfl (by first | exact rf_s _ | exact rf_n | exact rf_q _) ?_
    refine wa_aloadV (pc := 336) (y := mJ26_removeTreeNode) dJ26_removeTreeNode_336 rfl (by first | exact rf_s _ | exact rf_n | exact rf_q _) ?_
    refine wa_dup_x1 (pc := 338) (y := mJ26_removeTreeNode) dJ26_removeTreeNode_338 (by first | rfl | exact rf_cat _) (by first | rfl | exact rf_cat _) ?_
    refine wf_put (k := 14) (l := 11) 8 (.object "java/util/HashMap$TreeNode") dJ26_removeTreeNode_339 (by assumption) rfl q1616 (Or.inl rfl) (Nat.le_of_ble_eq_true rfl) rfl (by decide +kernel) (by first | rfl | exact rf_nar _ | exact rf_nar2 _) (by first | rfl | exact rf_fit _ | exact rf_fit2 _) ?_
    refine wa_ifnullV (pc := 342) 352 dJ26_removeTreeNode_342 rfl (by first | exact rf_s _ | exact rf_n | exact rf_q _) (fun hb342 => ?_) (fun a342 hb342 => ?_)
    · rw [hb342]
      refine wa_aloadV (pc := 352) (y := mJ26_removeTreeNode) dJ26_removeTreeNode_352 rfl (by first | exact rf_s _ | exact rf_n | exact rf_q _) ?_
      refine wa_aloadV (pc := 354) (y := mJ26_removeTreeNode) dJ26_removeTreeNode_354 rfl (by first | exact rf_s _ | exact rf_n | exact rf_q _) ?_
      refine wa_dup_x1 (pc := 356) (y := mJ26_removeTreeNode) dJ26_removeTreeNode_356 (by first | rfl | exact rf_cat _) (by first | rfl | exact rf_cat _) ?_
      refine wf_put (k := 14) (l := 11) 7 (.object "java/util/HashMap$TreeNode") dJ26_removeTreeNode_357 (by assumption) rfl q1615 (Or.inl rfl) (Nat.le_of_ble_eq_true rfl) rfl (by decide +kernel) (by first | rfl | exact rf_nar _ | exact rf_nar2 _) (by first | rfl | exact rf_fit _ | exact rf_fit2 _) ?_
      refine wa_ifnull (pc := 360) (y := mJ26_removeTreeNode) dJ26_removeTreeNode_360 ?_
      refine wa_aloadV (pc := 363) (y := mJ26_removeTreeNode) dJ26_removeTreeNode_363 rfl (by first | exact rf_s _ | exact rf_n | exact rf_q _) ?_
      refine wa_aloadV (pc := 365) (y := mJ26_removeTreeNode) dJ26_removeTreeNode_365 rfl (by first | exact rf_s _ | exact rf_n | exact rf_q _) ?_
      refine wf_put (k := 14) (l := 11) 6 (.object "java/util/HashMap$TreeNode") dJ26_removeTreeNode_367 (by assumption) rfl q1614 (Or.inl rfl) (Nat.le_of_ble_eq_true rfl) rfl (by decide +kernel) (by first | rfl | exact rf_nar _ | exact rf_nar2 _) (by first | rfl | exact rf_fit _ | exact rf_fit2 _) ?_
      refine wa_aloadV (pc := 370) (y := mJ26_removeTreeNode) dJ26_removeTreeNode_370 rfl (by first | exact rf_s _ | exact rf_n | exact rf_q _) ?_
      refine wa_aloadV (pc := 372) (y := mJ26_removeTreeNode) dJ26_removeTreeNode_372 rfl (by first | exact rf_s _ | exact rf_n | exact rf_q _) ?_
      refine wa_dup_x1 (pc := 374) (y := mJ26_removeTreeNode) dJ26_removeTreeNode_374 (by first | rfl | exact rf_cat _) (by first | rfl | exact rf_cat _) ?_
      refine wf_put (k := 14) (l := 11) 6 (.object "java/util/HashMap$TreeNode") dJ26_removeTreeNode_375 (by assumption) rfl q1614 (Or.inl rfl) (Nat.le_of_ble_eq_true rfl) rfl (by decide +kernel) (by first | rfl | exact rf_nar _ | exact rf_nar2 _) (by first | rfl | exact rf_fit _ | exact rf_fit2 _) ?_
      refine wa_ifnonnullV (pc := 378) 388 dJ26_removeTreeNode_378 rfl (by first | exact rf_s _ | exact rf_n | exact rf_q _) (fun a378 hb378 => ?_) (fun hb378 => ?_)
      · have h378 := hup _ hb378
        have hI378 := hI _ h378.1
        obtain ⟨x1, x2, x3, x4, x5⟩ := tl _ h378.1
        try have hne9 : a378 ≠ a280 := hpsp _ _ hb378 hb280 hnpr
        rw [hb378]
        refine wa_aloadV (pc := 388) (y := mJ26_removeTreeNode) dJ26_removeTreeNode_388 rfl (by first | exact rf_s _ | exact rf_n | exact rf_q _) ?_
        refine wa_aloadV (pc := 390) (y := mJ26_removeTreeNode) dJ26_removeTreeNode_390 rfl (by first | exact rf_s _ | exact rf_n | exact rf_q _) ?_
        refine wf_get (k := 14) (l := 11) 7 dJ26_removeTreeNode_392 (by assumption) rfl q1615 (Or.inl rfl) (Nat.le_of_ble_eq_true rfl) (Nat.le_of_ble_eq_true rfl) (by (repeat (first | exact updF_self _ _ _ _ | (apply updF_i; · decide) | (apply updF_a; · first | assumption | (apply Ne.symm; assumption) | omega) | (apply newF_a; · first | assumption | (apply Ne.symm; assumption) | omega) | exact newL_self (by rfl) | exact newF_self (by rfl) | (apply cpyF_a; · first | assumption | (apply Ne.symm; assumption) | omega))) <;> first | assumption | rfl) ?_
        refine wa_acneV (pc := 395) 408 dJ26_removeTreeNode_395 rfl (by first | exact rf_s _ | exact rf_n | exact rf_q _) (by first | exact rf_s _ | exact rf_n | exact rf_q _) (fun hb395 => ?_) (fun hb395 => ?_)
        · refine wa_aloadV (pc := 408) (y := mJ26_removeTreeNode) dJ26_removeTreeNode_408 rfl (by first | exact rf_s _ | exact rf_n | exact rf_q _) ?_
          refine wa_aloadV (pc := 410) (y := mJ26_removeTreeNode) dJ26_removeTreeNode_410 rfl (by first | exact rf_s _ | exact rf_n | exact rf_q _) ?_
          refine wf_put (k := 14) (l := 11) 8 (.object "java/util/HashMap$TreeNode") dJ26_removeTreeNode_412 (by assumption) rfl q1616 (Or.inl rfl) (Nat.le_of_ble_eq_true rfl) rfl (by decide +kernel) (by first | rfl | exact rf_nar _ | exact rf_nar2 _) (by first | rfl | exact rf_fit _ | exact rf_fit2 _) ?_
          refine wa_aloadV (pc := 415) (y := mJ26_removeTreeNode) dJ26_removeTreeNode_415 rfl (by first | exact rf_s _ | exact rf_n | exact rf_q _) ?_
          refine wa_ifnullV (pc := 417) 427 dJ26_removeTreeNode_417 rfl (by first | exact rf_s _ | exact rf_n | exact rf_q _) (fun hb417 => ?_) (fun a417 hb417 => ?_)
          · refine wa_aloadV (pc := 427) (y := mJ26_removeTreeNode) dJ26_removeTreeNode_427 rfl (by first | exact rf_s _ | exact rf_n | exact rf_q _) ?_
            refine wa_astoreV (pc := 429) (y := mJ26_removeTreeNode) dJ26_removeTreeNode_429 (Nat.le_of_ble_eq_true rfl) (by first | rfl | (simp [okst, rf_cat] <;> assumption)) (by first | exact rf_s _ | exact rf_n | exact rf_q _) ?_
            simp only [List.set_cons_zero, List.set_cons_succ]
            refine wa_goto (pc := 431) (y := mJ26_removeTreeNode) 462 dJ26_removeTreeNode_431 rfl ?_
            first | (cases hb417; done) | exact finA _ a342 _ _ _ _ _ (by rw [hb342]; rfl) hb378 (fun w hw => by have g1 := hrT w hw; have g2 := hsrR w; have g3 := hup w; clear finA finB t tl tp ts hsrR hup hsp hside hrT hpsp hI hinj hB hn; refine ⟨?_, ?_, ?_, ?_⟩ <;> grind (splits := 40) (gen := 40) (ematch := 40) [updF_eq, va_rf]) (by repeat (first | exact FrP.refl | refine FrP.upd ?_ (by first | exact ⟨hp, by decide⟩ | exact ⟨hs, by decide⟩ | exact ⟨hlB, by decide⟩ | exact ⟨hrB, by decide⟩ | exact ⟨h342.1, by decide⟩ | exact ⟨h378.1, by decide⟩ | exact ⟨h280.1, by decide⟩))) | exact finA _ p _ _ _ _ _ (by rw [hb342]; rfl) hb378 (fun w hw => by have g1 := hrT w hw; have g2 := hsrR w; have g3 := hup w; clear finA finB t tl tp ts hsrR hup hsp hside hrT hpsp hI hinj hB hn; refine ⟨?_, ?_, ?_, ?_⟩ <;> grind (splits := 40) (gen := 40) (ematch := 40) [updF_eq, va_rf]) (by repeat (first | exact FrP.refl | refine FrP.upd ?_ (by first | exact ⟨hp, by decide⟩ | exact ⟨hs, by decide⟩ | exact ⟨hlB, by decide⟩ | exact ⟨hrB, by decide⟩ | exact ⟨h342.1, by decide⟩ | exact ⟨h378.1, by decide⟩ | exact ⟨h280.1, by decide⟩))) | exact finB _ a342 _ _ _ _ _ (by rw [hb342]; rfl) hb378 (fun w hw => by have g1 := hrT w hw; have g2 := hsrR w; have g3 := hup w; clear finA finB t tl tp ts hsrR hup hsp hside hrT hpsp hI hinj hB hn; refine ⟨?_, ?_, ?_, ?_⟩ <;> grind (splits := 40) (gen := 40) (ematch := 40) [updF_eq, va_rf]) (by repeat (first | exact FrP.refl | refine FrP.upd ?_ (by first | exact ⟨hp, by decide⟩ | exact ⟨hs, by decide⟩ | exact ⟨hlB, by decide⟩ | exact ⟨hrB, by decide⟩ | exact ⟨h342.1, by decide⟩ | exact ⟨h378.1, by decide⟩ | exact ⟨h280.1, by decide⟩))) | exact finB _ p _ _ _ _ _ (by rw [hb342]; rfl) hb378 (fun w hw => by have g1 := hrT w hw; have g2 := hsrR w; have g3 := hup w; clear finA finB t tl tp ts hsrR hup hsp hside hrT hpsp hI hinj hB hn; refine ⟨?_, ?_, ?_, ?_⟩ <;> grind (splits := 40) (gen := 40) (ematch := 40) [updF_eq, va_rf]) (by repeat (first | exact FrP.refl | refine FrP.upd ?_ (by first | exact ⟨hp, by decide⟩ | exact ⟨hs, by decide⟩ | exact ⟨hlB, by decide⟩ | exact ⟨hrB, by decide⟩ | exact ⟨h342.1, by decide⟩ | exact ⟨h378.1, by decide⟩ | exact ⟨h280.1, by decide⟩)))
          · refine wa_aloadV (pc := 420) (y := mJ26_removeTreeNode) dJ26_removeTreeNode_420 rfl (by first | exact rf_s _ | exact rf_n | exact rf_q _) ?_
            refine wa_astoreV (pc := 422) (y := mJ26_removeTreeNode) dJ26_removeTreeNode_422 (Nat.le_of_ble_eq_true rfl) (by first | rfl | (simp [okst, rf_cat] <;> assumption)) (by first | exact rf_s _ | exact rf_n | exact rf_q _) ?_
            simp only [List.set_cons_zero, List.set_cons_succ]
            refine wa_goto (pc := 424) (y := mJ26_removeTreeNode) 431 dJ26_removeTreeNode_424 rfl ?_
            refine wa_goto (pc := 431) (y := mJ26_removeTreeNode) 462 dJ26_removeTreeNode_431 rfl ?_
            first | (cases hb417; done) | exact finA _ a342 _ _ _ _ _ (by rw [hb342]; rfl) hb378 (fun w hw => by have g1 := hrT w hw; have g2 := hsrR w; have g3 := hup w; clear finA finB t tl tp ts hsrR hup hsp hside hrT hpsp hI hinj hB hn; refine ⟨?_, ?_, ?_, ?_⟩ <;> grind (splits := 40) (gen := 40) (ematch := 40) [updF_eq, va_rf]) (by repeat (first | exact FrP.refl | refine FrP.upd ?_ (by first | exact ⟨hp, by decide⟩ | exact ⟨hs, by decide⟩ | exact ⟨hlB, by decide⟩ | exact ⟨hrB, by decide⟩ | exact ⟨h342.1, by decide⟩ | exact ⟨h378.1, by decide⟩ | exact ⟨h280.1, by decide⟩))) | exact finA _ p _ _ _ _ _ (by rw [hb342]; rfl) hb378 (fun w hw => by have g1 := hrT w hw; have g2 := hsrR w; have g3 := hup w; clear finA finB t tl tp ts hsrR hup hsp hside hrT hpsp hI hinj hB hn; refine ⟨?_, ?_, ?_, ?_⟩ <;> grind (splits := 40) (gen := 40) (ematch := 40) [updF_eq, va_rf]) (by repeat (first | exact FrP.refl | refine FrP.upd ?_ (by first | exact ⟨hp, by decide⟩ | exact ⟨hs, by decide⟩ | exact ⟨hlB, by decide⟩ | exact ⟨hrB, by decide⟩ | exact ⟨h342.1, by decide⟩ | exact ⟨h378.1, by decide⟩ | exact ⟨h280.1, by decide⟩))) | exact finB _ a342 _ _ _ _ _ (by rw [hb342]; rfl) hb378 (fun w hw => by have g1 := hrT w hw; have g2 := hsrR w; have g3 := hup w; clear finA finB t tl tp ts hsrR hup hsp hside hrT hpsp hI hinj hB hn; refine ⟨?_, ?_, ?_, ?_⟩ <;> grind (splits := 40) (gen := 40) (ematch := 40) [updF_eq, va_rf]) (by repeat (first | exact FrP.refl | refine FrP.upd ?_ (by first | exact ⟨hp, by decide⟩ | exact ⟨hs, by decide⟩ | exact ⟨hlB, by decide⟩ | exact ⟨hrB, by decide⟩ | exact ⟨h342.1, by decide⟩ | exact ⟨h378.1, by decide⟩ | exact ⟨h280.1, by decide⟩))) | exact finB _ p _ _ _ _ _ (by rw [hb342]; rfl) hb378 (fun w hw => by have g1 := hrT w hw; have g2 := hsrR w; have g3 := hup w; clear finA finB t tl tp ts hsrR hup hsp hside hrT hpsp hI hinj hB hn; refine ⟨?_, ?_, ?_, ?_⟩ <;> grind (splits := 40) (gen := 40) (ematch := 40) [updF_eq, va_rf]) (by repeat (first | exact FrP.refl | refine FrP.upd ?_ (by first | exact ⟨hp, by decide⟩ | exact ⟨hs, by decide⟩ | exact ⟨hlB, by decide⟩ | exact ⟨hrB, by decide⟩ | exact ⟨h342.1, by decide⟩ | exact ⟨h378.1, by decide⟩ | exact ⟨h280.1, by decide⟩)))
        · refine wa_aloadV (pc := 398) (y := mJ26_removeTreeNode) dJ26_removeTreeNode_398 rfl (by first | exact rf_s _ | exact rf_n | exact rf_q _) ?_
          refine wa_aloadV (pc := 400) (y := mJ26_removeTreeNode) dJ26_removeTreeNode_400 rfl (by first | exact rf_s _ | exact rf_n | exact rf_q _) ?_
          refine wf_put (k := 14) (l := 11) 7 (.object "java/util/HashMap$TreeNode") dJ26_removeTreeNode_402 (by assumption) rfl q1615 (Or.inl rfl) (Nat.le_of_ble_eq_true rfl) rfl (by decide +kernel) (by first | rfl | exact rf_nar _ | exact rf_nar2 _) (by first | rfl | exact rf_fit _ | exact rf_fit2 _) ?_
          refine wa_goto (pc := 405) (y := mJ26_removeTreeNode) 415 dJ26_removeTreeNode_405 rfl ?_
          refine wa_aloadV (pc := 415) (y := mJ26_removeTreeNode) dJ26_removeTreeNode_415 rfl (by first | exact rf_s _ | exact rf_n | exact rf_q _) ?_
          refine wa_ifnullV (pc := 417) 427 dJ26_removeTreeNode_417 rfl (by first | exact rf_s _ | exact rf_n | exact rf_q _) (fun hb417 => ?_) (fun a417 hb417 => ?_)
          · refine wa_aloadV (pc := 427) (y := mJ26_removeTreeNode) dJ26_removeTreeNode_427 rfl (by first | exact rf_s _ | exact rf_n | exact rf_q _) ?_
            refine wa_astoreV (pc := 429) (y := mJ26_removeTreeNode) dJ26_removeTreeNode_429 (Nat.le_of_ble_eq_true rfl) (by first | rfl | (simp [okst, rf_cat] <;> assumption)) (by first | exact rf_s _ | exact rf_n | exact rf_q _) ?_
            simp only [List.set_cons_zero, List.set_cons_succ]
            refine wa_goto (pc := 431) (y := mJ26_removeTreeNode) 462 dJ26_removeTreeNode_431 rfl ?_
            first | (cases hb417; done) | exact finA _ a342 _ _ _ _ _ (by rw [hb342]; rfl) hb378 (fun w hw => by have g1 := hrT w hw; have g2 := hsrR w; have g3 := hup w; clear finA finB t tl tp ts hsrR hup hsp hside hrT hpsp hI hinj hB hn; refine ⟨?_, ?_, ?_, ?_⟩ <;> grind (splits := 40) (gen := 40) (ematch := 40) [updF_eq, va_rf]) (by repeat (first | exact FrP.refl | refine FrP.upd ?_ (by first | exact ⟨hp, by decide⟩ | exact ⟨hs, by decide⟩ | exact ⟨hlB, by decide⟩ | exact ⟨hrB, by decide⟩ | exact ⟨h342.1, by decide⟩ | exact ⟨h378.1, by decide⟩ | exact ⟨h280.1, by decide⟩))) | exact finA _ p _ _ _ _ _ (by rw [hb342]; rfl) hb378 (fun w hw => by have g1 := hrT w hw; have g2 := hsrR w; have g3 := hup w; clear finA finB t tl tp ts hsrR hup hsp hside hrT hpsp hI hinj hB hn; refine ⟨?_, ?_, ?_, ?_⟩ <;> grind (splits := 40) (gen := 40) (ematch := 40) [updF_eq, va_rf]) (by repeat (first | exact FrP.refl | refine FrP.upd ?_ (by first | exact ⟨hp, by decide⟩ | exact ⟨hs, by decide⟩ | exact ⟨hlB, by decide⟩ | exact ⟨hrB, by decide⟩ | exact ⟨h342.1, by decide⟩ | exact ⟨h378.1, by decide⟩ | exact ⟨h280.1, by decide⟩))) | exact finB _ a342 _ _ _ _ _ (by rw [hb342]; rfl) hb378 (fun w hw => by have g1 := hrT w hw; have g2 := hsrR w; have g3 := hup w; clear finA finB t tl tp ts hsrR hup hsp hside hrT hpsp hI hinj hB hn; refine ⟨?_, ?_, ?_, ?_⟩ <;> grind (splits := 40) (gen := 40) (ematch := 40) [updF_eq, va_rf]) (by repeat (first | exact FrP.refl | refine FrP.upd ?_ (by first | exact ⟨hp, by decide⟩ | exact ⟨hs, by decide⟩ | exact ⟨hlB, by decide⟩ | exact ⟨hrB, by decide⟩ | exact ⟨h342.1, by decide⟩ | exact ⟨h378.1, by decide⟩ | exact ⟨h280.1, by decide⟩))) | exact finB _ p _ _ _ _ _ (by rw [hb342]; rfl) hb378 (fun w hw => by have g1 := hrT w hw; have g2 := hsrR w; have g3 := hup w; clear finA finB t tl tp ts hsrR hup hsp hside hrT hpsp hI hinj hB hn; refine ⟨?_, ?_, ?_, ?_⟩ <;> grind (splits := 40) (gen := 40) (ematch := 40) [updF_eq, va_rf]) (by repeat (first | exact FrP.refl | refine FrP.upd ?_ (by first | exact ⟨hp, by decide⟩ | exact ⟨hs, by decide⟩ | exact ⟨hlB, by decide⟩ | exact ⟨hrB, by decide⟩ | exact ⟨h342.1, by decide⟩ | exact ⟨h378.1, by decide⟩ | exact ⟨h280.1, by decide⟩)))
          · refine wa_aloadV (pc := 420) (y := mJ26_removeTreeNode) dJ26_removeTreeNode_420 rfl (by first | exact rf_s _ | exact rf_n | exact rf_q _) ?_
            refine wa_astoreV (pc := 422) (y := mJ26_removeTreeNode) dJ26_removeTreeNode_422 (Nat.le_of_ble_eq_true rfl) (by first | rfl | (simp [okst, rf_cat] <;> assumption)) (by first | exact rf_s _ | exact rf_n | exact rf_q _) ?_
            simp only [List.set_cons_zero, List.set_cons_succ]
            refine wa_goto (pc := 424) (y := mJ26_removeTreeNode) 431 dJ26_removeTreeNode_424 rfl ?_
            refine wa_goto (pc := 431) (y := mJ26_removeTreeNode) 462 dJ26_removeTreeNode_431 rfl ?_
            first | (cases hb417; done) | exact finA _ a342 _ _ _ _ _ (by rw [hb342]; rfl) hb378 (fun w hw => by have g1 := hrT w hw; have g2 := hsrR w; have g3 := hup w; clear finA finB t tl tp ts hsrR hup hsp hside hrT hpsp hI hinj hB hn; refine ⟨?_, ?_, ?_, ?_⟩ <;> grind (splits := 40) (gen := 40) (ematch := 40) [updF_eq, va_rf]) (by repeat (first | exact FrP.refl | refine FrP.upd ?_ (by first | exact ⟨hp, by decide⟩ | exact ⟨hs, by decide⟩ | exact ⟨hlB, by decide⟩ | exact ⟨hrB, by decide⟩ | exact ⟨h342.1, by decide⟩ | exact ⟨h378.1, by decide⟩ | exact ⟨h280.1, by decide⟩))) | exact finA _ p _ _ _ _ _ (by rw [hb342]; rfl) hb378 (fun w hw => by have g1 := hrT w hw; have g2 := hsrR w; have g3 := hup w; clear finA finB t tl tp ts hsrR hup hsp hside hrT hpsp hI hinj hB hn; refine ⟨?_, ?_, ?_, ?_⟩ <;> grind (splits := 40) (gen := 40) (ematch := 40) [updF_eq, va_rf]) (by repeat (first | exact FrP.refl | refine FrP.upd ?_ (by first | exact ⟨hp, by decide⟩ | exact ⟨hs, by decide⟩ | exact ⟨hlB, by decide⟩ | exact ⟨hrB, by decide⟩ | exact ⟨h342.1, by decide⟩ | exact ⟨h378.1, by decide⟩ | exact ⟨h280.1, by decide⟩))) | exact finB _ a342 _ _ _ _ _ (by rw [hb342]; rfl) hb378 (fun w hw => by have g1 := hrT w hw; have g2 := hsrR w; have g3 := hup w; clear finA finB t tl tp ts hsrR hup hsp hside hrT hpsp hI hinj hB hn; refine ⟨?_, ?_, ?_, ?_⟩ <;> grind (splits := 40) (gen := 40) (ematch := 40) [updF_eq, va_rf]) (by repeat (first | exact FrP.refl | refine FrP.upd ?_ (by first | exact ⟨hp, by decide⟩ | exact ⟨hs, by decide⟩ | exact ⟨hlB, by decide⟩ | exact ⟨hrB, by decide⟩ | exact ⟨h342.1, by decide⟩ | exact ⟨h378.1, by decide⟩ | exact ⟨h280.1, by decide⟩))) | exact finB _ p _ _ _ _ _ (by rw [hb342]; rfl) hb378 (fun w hw => by have g1 := hrT w hw; have g2 := hsrR w; have g3 := hup w; clear finA finB t tl tp ts hsrR hup hsp hside hrT hpsp hI hinj hB hn; refine ⟨?_, ?_, ?_, ?_⟩ <;> grind (splits := 40) (gen := 40) (ematch := 40) [updF_eq, va_rf]) (by repeat (first | exact FrP.refl | refine FrP.upd ?_ (by first | exact ⟨hp, by decide⟩ | exact ⟨hs, by decide⟩ | exact ⟨hlB, by decide⟩ | exact ⟨hrB, by decide⟩ | exact ⟨h342.1, by decide⟩ | exact ⟨h378.1, by decide⟩ | exact ⟨h280.1, by decide⟩)))
      · rw [hb378]
        refine wa_aloadV (pc := 381) (y := mJ26_removeTreeNode) dJ26_removeTreeNode_381 rfl (by first | exact rf_s _ | exact rf_n | exact rf_q _) ?_
        refine wa_astoreV (pc := 383) (y := mJ26_removeTreeNode) dJ26_removeTreeNode_383 (Nat.le_of_ble_eq_true rfl) (by first | rfl | (simp [okst, rf_cat] <;> assumption)) (by first | exact rf_s _ | exact rf_n | exact rf_q _) ?_
        simp only [List.set_cons_zero, List.set_cons_succ]
        refine wa_goto (pc := 385) (y := mJ26_removeTreeNode) 415 dJ26_removeTreeNode_385 rfl ?_
        refine wa_aloadV (pc := 415) (y := mJ26_removeTreeNode) dJ26_removeTreeNode_415 rfl (by first | exact rf_s _ | exact rf_n | exact rf_q _) ?_
        refine wa_ifnullV (pc := 417) 427 dJ26_removeTreeNode_417 rfl (by first | exact rf_s _ | exact rf_n | exact rf_q _) (fun hb417 => ?_) (fun a417 hb417 => ?_)
        · refine wa_aloadV (pc := 427) (y := mJ26_removeTreeNode) dJ26_removeTreeNode_427 rfl (by first | exact rf_s _ | exact rf_n | exact rf_q _) ?_
          refine wa_astoreV (pc := 429) (y := mJ26_removeTreeNode) dJ26_removeTreeNode_429 (Nat.le_of_ble_eq_true rfl) (by first | rfl | (simp [okst, rf_cat] <;> assumption)) (by first | exact rf_s _ | exact rf_n | exact rf_q _) ?_
          simp only [List.set_cons_zero, List.set_cons_succ]
          refine wa_goto (pc := 431) (y := mJ26_removeTreeNode) 462 dJ26_removeTreeNode_431 rfl ?_
          first | (cases hb417; done) | exact finA _ a342 _ _ _ _ _ (by rw [hb342]; rfl) hb378 (fun w hw => by have g1 := hrT w hw; have g2 := hsrR w; have g3 := hup w; clear finA finB t tl tp ts hsrR hup hsp hside hrT hpsp hI hinj hB hn; refine ⟨?_, ?_, ?_, ?_⟩ <;> grind (splits := 40) (gen := 40) (ematch := 40) [updF_eq, va_rf]) (by repeat (first | exact FrP.refl | refine FrP.upd ?_ (by first | exact ⟨hp, by decide⟩ | exact ⟨hs, by decide⟩ | exact ⟨hlB, by decide⟩ | exact ⟨hrB, by decide⟩ | exact ⟨h342.1, by decide⟩ | exact ⟨h378.1, by decide⟩ | exact ⟨h280.1, by decide⟩))) | exact finA _ p _ _ _ _ _ (by rw [hb342]; rfl) hb378 (fun w hw => by have g1 := hrT w hw; have g2 := hsrR w; have g3 := hup w; clear finA finB t tl tp ts hsrR hup hsp hside hrT hpsp hI hinj hB hn; refine ⟨?_, ?_, ?_, ?_⟩ <;> grind (splits := 40) (gen := 40) (ematch := 40) [updF_eq, va_rf]) (by repeat (first | exact FrP.refl | refine FrP.upd ?_ (by first | exact ⟨hp, by decide⟩ | exact ⟨hs, by decide⟩ | exact ⟨hlB, by decide⟩ | exact ⟨hrB, by decide⟩ | exact ⟨h342.1, by decide⟩ | exact ⟨h378.1, by decide⟩ | exact ⟨h280.1, by decide⟩))) | exact finB _ a342 _ _ _ _ _ (by rw [hb342]; rfl) hb378 (fun w hw => by have g1 := hrT w hw; have g2 := hsrR w; have g3 := hup w; clear finA finB t tl tp ts hsrR hup hsp hside hrT hpsp hI hinj hB hn; refine ⟨?_, ?_, ?_, ?_⟩ <;> grind (splits := 40) (gen := 40) (ematch := 40) [updF_eq, va_rf]) (by repeat (first | exact FrP.refl | refine FrP.upd ?_ (by first | exact ⟨hp, by decide⟩ | exact ⟨hs, by decide⟩ | exact ⟨hlB, by decide⟩ | exact ⟨hrB, by decide⟩ | exact ⟨h342.1, by decide⟩ | exact ⟨h378.1, by decide⟩ | exact ⟨h280.1, by decide⟩))) | exact finB _ p _ _ _ _ _ (by rw [hb342]; rfl) hb378 (fun w hw => by have g1 := hrT w hw; have g2 := hsrR w; have g3 := hup w; clear finA finB t tl tp ts hsrR hup hsp hside hrT hpsp hI hinj hB hn; refine ⟨?_, ?_, ?_, ?_⟩ <;> grind (splits := 40) (gen := 40) (ematch := 40) [updF_eq, va_rf]) (by repeat (first | exact FrP.refl | refine FrP.upd ?_ (by first | exact ⟨hp, by decide⟩ | exact ⟨hs, by decide⟩ | exact ⟨hlB, by decide⟩ | exact ⟨hrB, by decide⟩ | exact ⟨h342.1, by decide⟩ | exact ⟨h378.1, by decide⟩ | exact ⟨h280.1, by decide⟩)))
        · refine wa_aloadV (pc := 420) (y := mJ26_removeTreeNode) dJ26_removeTreeNode_420 rfl (by first | exact rf_s _ | exact rf_n | exact rf_q _) ?_
          refine wa_astoreV (pc := 422) (y := mJ26_removeTreeNode) dJ26_removeTreeNode_422 (Nat.le_of_ble_eq_true rfl) (by first | rfl | (simp [okst, rf_cat] <;> assumption)) (by first | exact rf_s _ | exact rf_n | exact rf_q _) ?_
          simp only [List.set_cons_zero, List.set_cons_succ]
          refine wa_goto (pc := 424) (y := mJ26_removeTreeNode) 431 dJ26_removeTreeNode_424 rfl ?_
          refine wa_goto (pc := 431) (y := mJ26_removeTreeNode) 462 dJ26_removeTreeNode_431 rfl ?_
          first | (cases hb417; done) | exact finA _ a342 _ _ _ _ _ (by rw [hb342]; rfl) hb378 (fun w hw => by have g1 := hrT w hw; have g2 := hsrR w; have g3 := hup w; clear finA finB t tl tp ts hsrR hup hsp hside hrT hpsp hI hinj hB hn; refine ⟨?_, ?_, ?_, ?_⟩ <;> grind (splits := 40) (gen := 40) (ematch := 40) [updF_eq, va_rf]) (by repeat (first | exact FrP.refl | refine FrP.upd ?_ (by first | exact ⟨hp, by decide⟩ | exact ⟨hs, by decide⟩ | exact ⟨hlB, by decide⟩ | exact ⟨hrB, by decide⟩ | exact ⟨h342.1, by decide⟩ | exact ⟨h378.1, by decide⟩ | exact ⟨h280.1, by decide⟩))) | exact finA _ p _ _ _ _ _ (by rw [hb342]; rfl) hb378 (fun w hw => by have g1 := hrT w hw; have g2 := hsrR w; have g3 := hup w; clear finA finB t tl tp ts hsrR hup hsp hside hrT hpsp hI hinj hB hn; refine ⟨?_, ?_, ?_, ?_⟩ <;> grind (splits := 40) (gen := 40) (ematch := 40) [updF_eq, va_rf]) (by repeat (first | exact FrP.refl | refine FrP.upd ?_ (by first | exact ⟨hp, by decide⟩ | exact ⟨hs, by decide⟩ | exact ⟨hlB, by decide⟩ | exact ⟨hrB, by decide⟩ | exact ⟨h342.1, by decide⟩ | exact ⟨h378.1, by decide⟩ | exact ⟨h280.1, by decide⟩))) | exact finB _ a342 _ _ _ _ _ (by rw [hb342]; rfl) hb378 (fun w hw => by have g1 := hrT w hw; have g2 := hsrR w; have g3 := hup w; clear finA finB t tl tp ts hsrR hup hsp hside hrT hpsp hI hinj hB hn; refine ⟨?_, ?_, ?_, ?_⟩ <;> grind (splits := 40) (gen := 40) (ematch := 40) [updF_eq, va_rf]) (by repeat (first | exact FrP.refl | refine FrP.upd ?_ (by first | exact ⟨hp, by decide⟩ | exact ⟨hs, by decide⟩ | exact ⟨hlB, by decide⟩ | exact ⟨hrB, by decide⟩ | exact ⟨h342.1, by decide⟩ | exact ⟨h378.1, by decide⟩ | exact ⟨h280.1, by decide⟩))) | exact finB _ p _ _ _ _ _ (by rw [hb342]; rfl) hb378 (fun w hw => by have g1 := hrT w hw; have g2 := hsrR w; have g3 := hup w; clear finA finB t tl tp ts hsrR hup hsp hside hrT hpsp hI hinj hB hn; refine ⟨?_, ?_, ?_, ?_⟩ <;> grind (splits := 40) (gen := 40) (ematch := 40) [updF_eq, va_rf]) (by repeat (first | exact FrP.refl | refine FrP.upd ?_ (by first | exact ⟨hp, by decide⟩ | exact ⟨hs, by decide⟩ | exact ⟨hlB, by decide⟩ | exact ⟨hrB, by decide⟩ | exact ⟨h342.1, by decide⟩ | exact ⟨h378.1, by decide⟩ | exact ⟨h280.1, by decide⟩)))
    · have h342 := hsrR _ hb342
      have hI342 := hI _ h342.1
      have hT342 := hrT _ h342.1 hb342
      rw [hb342]
      refine wa_aloadV (pc := 345) (y := mJ26_removeTreeNode) dJ26_removeTreeNode_345 rfl (by first | exact rf_s _ | exact rf_n | exact rf_q _) ?_
      refine wa_aloadV (pc := 347) (y := mJ26_removeTreeNode) dJ26_removeTreeNode_347 rfl (by first | exact rf_s _ | exact rf_n | exact rf_q _) ?_
      refine wf_put (k := 14) (l := 11) 6 (.object "java/util/HashMap$TreeNode") dJ26_removeTreeNode_349 (by assumption) rfl q1614 (Or.inl rfl) (Nat.le_of_ble_eq_true rfl) rfl (by decide +kernel) (by first | rfl | exact rf_nar _ | exact rf_nar2 _) (by first | rfl | exact rf_fit _ | exact rf_fit2 _) ?_
      refine wa_aloadV (pc := 352) (y := mJ26_removeTreeNode) dJ26_removeTreeNode_352 rfl (by first | exact rf_s _ | exact rf_n | exact rf_q _) ?_
      refine wa_aloadV (pc := 354) (y := mJ26_removeTreeNode) dJ26_removeTreeNode_354 rfl (by first | exact rf_s _ | exact rf_n | exact rf_q _) ?_
      refine wa_dup_x1 (pc := 356) (y := mJ26_removeTreeNode) dJ26_removeTreeNode_356 (by first | rfl | exact rf_cat _) (by first | rfl | exact rf_cat _) ?_
      refine wf_put (k := 14) (l := 11) 7 (.object "java/util/HashMap$TreeNode") dJ26_removeTreeNode_357 (by assumption) rfl q1615 (Or.inl rfl) (Nat.le_of_ble_eq_true rfl) rfl (by decide +kernel) (by first | rfl | exact rf_nar _ | exact rf_nar2 _) (by first | rfl | exact rf_fit _ | exact rf_fit2 _) ?_
      refine wa_ifnull (pc := 360) (y := mJ26_removeTreeNode) dJ26_removeTreeNode_360 ?_
      refine wa_aloadV (pc := 363) (y := mJ26_removeTreeNode) dJ26_removeTreeNode_363 rfl (by first | exact rf_s _ | exact rf_n | exact rf_q _) ?_
      refine wa_aloadV (pc := 365) (y := mJ26_removeTreeNode) dJ26_removeTreeNode_365 rfl (by first | exact rf_s _ | exact rf_n | exact rf_q _) ?_
      refine wf_put (k := 14) (l := 11) 6 (.object "java/util/HashMap$TreeNode") dJ26_removeTreeNode_367 (by assumption) rfl q1614 (Or.inl rfl) (Nat.le_of_ble_eq_true rfl) rfl (by decide +kernel) (by first | rfl | exact rf_nar _ | exact rf_nar2 _) (by first | rfl | exact rf_fit _ | exact rf_fit2 _) ?_
      refine wa_aloadV (pc := 370) (y := mJ26_removeTreeNode) dJ26_removeTreeNode_370 rfl (by first | exact rf_s _ | exact rf_n | exact rf_q _) ?_
      refine wa_aloadV (pc := 372) (y := mJ26_removeTreeNode) dJ26_removeTreeNode_372 rfl (by first | exact rf_s _ | exact rf_n | exact rf_q _) ?_
      refine wa_dup_x1 (pc := 374) (y := mJ26_removeTreeNode) dJ26_removeTreeNode_374 (by first | rfl | exact rf_cat _) (by first | rfl | exact rf_cat _) ?_
      refine wf_put (k := 14) (l := 11) 6 (.object "java/util/HashMap$TreeNode") dJ26_removeTreeNode_375 (by assumption) rfl q1614 (Or.inl rfl) (Nat.le_of_ble_eq_true rfl) rfl (by decide +kernel) (by first | rfl | exact rf_nar _ | exact rf_nar2 _) (by first | rfl | exact rf_fit _ | exact rf_fit2 _) ?_
      refine wa_ifnonnullV (pc := 378) 388 dJ26_removeTreeNode_378 rfl (by first | exact rf_s _ | exact rf_n | exact rf_q _) (fun a378 hb378 => ?_) (fun hb378 => ?_)
      · have h378 := hup _ hb378
        have hI378 := hI _ h378.1
        obtain ⟨x1, x2, x3, x4, x5⟩ := tl _ h378.1
        try have hne9 : a378 ≠ a280 := hpsp _ _ hb378 hb280 hnpr
        rw [hb378]
        refine wa_aloadV (pc := 388) (y := mJ26_removeTreeNode) dJ26_removeTreeNode_388 rfl (by first | exact rf_s _ | exact rf_n | exact rf_q _) ?_
        refine wa_aloadV (pc := 390) (y := mJ26_removeTreeNode) dJ26_removeTreeNode_390 rfl (by first | exact rf_s _ | exact rf_n | exact rf_q _) ?_
        refine wf_get (k := 14) (l := 11) 7 dJ26_removeTreeNode_392 (by assumption) rfl q1615 (Or.inl rfl) (Nat.le_of_ble_eq_true rfl) (Nat.le_of_ble_eq_true rfl) (by (repeat (first | exact updF_self _ _ _ _ | (apply updF_i; · decide) | (apply updF_a; · first | assumption | (apply Ne.symm; assumption) | omega) | (apply newF_a; · first | assumption | (apply Ne.symm; assumption) | omega) | exact newL_self (by rfl) | exact newF_self (by rfl) | (apply cpyF_a; · first | assumption | (apply Ne.symm; assumption) | omega))) <;> first | assumption | rfl) ?_
        refine wa_acneV (pc := 395) 408 dJ26_removeTreeNode_395 rfl (by first | exact rf_s _ | exact rf_n | exact rf_q _) (by first | exact rf_s _ | exact rf_n | exact rf_q _) (fun hb395 => ?_) (fun hb395 => ?_)
        · refine wa_aloadV (pc := 408) (y := mJ26_removeTreeNode) dJ26_removeTreeNode_408 rfl (by first | exact rf_s _ | exact rf_n | exact rf_q _) ?_
          refine wa_aloadV (pc := 410) (y := mJ26_removeTreeNode) dJ26_removeTreeNode_410 rfl (by first | exact rf_s _ | exact rf_n | exact rf_q _) ?_
          refine wf_put (k := 14) (l := 11) 8 (.object "java/util/HashMap$TreeNode") dJ26_removeTreeNode_412 (by assumption) rfl q1616 (Or.inl rfl) (Nat.le_of_ble_eq_true rfl) rfl (by decide +kernel) (by first | rfl | exact rf_nar _ | exact rf_nar2 _) (by first | rfl | exact rf_fit _ | exact rf_fit2 _) ?_
          refine wa_aloadV (pc := 415) (y := mJ26_removeTreeNode) dJ26_removeTreeNode_415 rfl (by first | exact rf_s _ | exact rf_n | exact rf_q _) ?_
          refine wa_ifnullV (pc := 417) 427 dJ26_removeTreeNode_417 rfl (by first | exact rf_s _ | exact rf_n | exact rf_q _) (fun hb417 => ?_) (fun a417 hb417 => ?_)
          · refine wa_aloadV (pc := 427) (y := mJ26_removeTreeNode) dJ26_removeTreeNode_427 rfl (by first | exact rf_s _ | exact rf_n | exact rf_q _) ?_
            refine wa_astoreV (pc := 429) (y := mJ26_removeTreeNode) dJ26_removeTreeNode_429 (Nat.le_of_ble_eq_true rfl) (by first | rfl | (simp [okst, rf_cat] <;> assumption)) (by first | exact rf_s _ | exact rf_n | exact rf_q _) ?_
            simp only [List.set_cons_zero, List.set_cons_succ]
            refine wa_goto (pc := 431) (y := mJ26_removeTreeNode) 462 dJ26_removeTreeNode_431 rfl ?_
            first | (cases hb417; done) | exact finA _ a342 _ _ _ _ _ (by rw [hb342]; rfl) hb378 (fun w hw => by have g1 := hrT w hw; have g2 := hsrR w; have g3 := hup w; clear finA finB t tl tp ts hsrR hup hsp hside hrT hpsp hI hinj hB hn; refine ⟨?_, ?_, ?_, ?_⟩ <;> grind (splits := 40) (gen := 40) (ematch := 40) [updF_eq, va_rf]) (by repeat (first | exact FrP.refl | refine FrP.upd ?_ (by first | exact ⟨hp, by decide⟩ | exact ⟨hs, by decide⟩ | exact ⟨hlB, by decide⟩ | exact ⟨hrB, by decide⟩ | exact ⟨h342.1, by decide⟩ | exact ⟨h378.1, by decide⟩ | exact ⟨h280.1, by decide⟩))) | exact finA _ p _ _ _ _ _ (by rw [hb342]; rfl) hb378 (fun w hw => by have g1 := hrT w hw; have g2 := hsrR w; have g3 := hup w; clear finA finB t tl tp ts hsrR hup hsp hside hrT hpsp hI hinj hB hn; refine ⟨?_, ?_, ?_, ?_⟩ <;> grind (splits := 40) (gen := 40) (ematch := 40) [updF_eq, va_rf]) (by repeat (first | exact FrP.refl | refine FrP.upd ?_ (by first | exact ⟨hp, by decide⟩ | exact ⟨hs, by decide⟩ | exact ⟨hlB, by decide⟩ | exact ⟨hrB, by decide⟩ | exact ⟨h342.1, by decide⟩ | exact ⟨h378.1, by decide⟩ | exact ⟨h280.1, by decide⟩))) | exact finB _ a342 _ _ _ _ _ (by rw [hb342]; rfl) hb378 (fun w hw => by have g1 := hrT w hw; have g2 := hsrR w; have g3 := hup w; clear finA finB t tl tp ts hsrR hup hsp hside hrT hpsp hI hinj hB hn; refine ⟨?_, ?_, ?_, ?_⟩ <;> grind (splits := 40) (gen := 40) (ematch := 40) [updF_eq, va_rf]) (by repeat (first | exact FrP.refl | refine FrP.upd ?_ (by first | exact ⟨hp, by decide⟩ | exact ⟨hs, by decide⟩ | exact ⟨hlB, by decide⟩ | exact ⟨hrB, by decide⟩ | exact ⟨h342.1, by decide⟩ | exact ⟨h378.1, by decide⟩ | exact ⟨h280.1, by decide⟩))) | exact finB _ p _ _ _ _ _ (by rw [hb342]; rfl) hb378 (fun w hw => by have g1 := hrT w hw; have g2 := hsrR w; have g3 := hup w; clear finA finB t tl tp ts hsrR hup hsp hside hrT hpsp hI hinj hB hn; refine ⟨?_, ?_, ?_, ?_⟩ <;> grind (splits := 40) (gen := 40) (ematch := 40) [updF_eq, va_rf]) (by repeat (first | exact FrP.refl | refine FrP.upd ?_ (by first | exact ⟨hp, by decide⟩ | exact ⟨hs, by decide⟩ | exact ⟨hlB, by decide⟩ | exact ⟨hrB, by decide⟩ | exact ⟨h342.1, by decide⟩ | exact ⟨h378.1, by decide⟩ | exact ⟨h280.1, by decide⟩)))
          · refine wa_aloadV (pc := 420) (y := mJ26_removeTreeNode) dJ26_removeTreeNode_420 rfl (by first | exact rf_s _ | exact rf_n | exact rf_q _) ?_
            refine wa_astoreV (pc := 422) (y := mJ26_removeTreeNode) dJ26_removeTreeNode_422 (Nat.le_of_ble_eq_true rfl) (by first | rfl | (simp [okst, rf_cat] <;> assumption)) (by first | exact rf_s _ | exact rf_n | exact rf_q _) ?_
            simp only [List.set_cons_zero, List.set_cons_succ]
            refine wa_goto (pc := 424) (y := mJ26_removeTreeNode) 431 dJ26_removeTreeNode_424 rfl ?_
            refine wa_goto (pc := 431) (y := mJ26_removeTreeNode) 462 dJ26_removeTreeNode_431 rfl ?_
            first | (cases hb417; done) | exact finA _ a342 _ _ _ _ _ (by rw [hb342]; rfl) hb378 (fun w hw => by have g1 := hrT w hw; have g2 := hsrR w; have g3 := hup w; clear finA finB t tl tp ts hsrR hup hsp hside hrT hpsp hI hinj hB hn; refine ⟨?_, ?_, ?_, ?_⟩ <;> grind (splits := 40) (gen := 40) (ematch := 40) [updF_eq, va_rf]) (by repeat (first | exact FrP.refl | refine FrP.upd ?_ (by first | exact ⟨hp, by decide⟩ | exact ⟨hs, by decide⟩ | exact ⟨hlB, by decide⟩ | exact ⟨hrB, by decide⟩ | exact ⟨h342.1, by decide⟩ | exact ⟨h378.1, by decide⟩ | exact ⟨h280.1, by decide⟩))) | exact finA _ p _ _ _ _ _ (by rw [hb342]; rfl) hb378 (fun w hw => by have g1 := hrT w hw; have g2 := hsrR w; have g3 := hup w; clear finA finB t tl tp ts hsrR hup hsp hside hrT hpsp hI hinj hB hn; refine ⟨?_, ?_, ?_, ?_⟩ <;> grind (splits := 40) (gen := 40) (ematch := 40) [updF_eq, va_rf]) (by repeat (first | exact FrP.refl | refine FrP.upd ?_ (by first | exact ⟨hp, by decide⟩ | exact ⟨hs, by decide⟩ | exact ⟨hlB, by decide⟩ | exact ⟨hrB, by decide⟩ | exact ⟨h342.1, by decide⟩ | exact ⟨h378.1, by decide⟩ | exact ⟨h280.1, by decide⟩))) | exact finB _ a342 _ _ _ _ _ (by rw [hb342]; rfl) hb378 (fun w hw => by have g1 := hrT w hw; have g2 := hsrR w; have g3 := hup w; clear finA finB t tl tp ts hsrR hup hsp hside hrT hpsp hI hinj hB hn; refine ⟨?_, ?_, ?_, ?_⟩ <;> grind (splits := 40) (gen := 40) (ematch := 40) [updF_eq, va_rf]) (by repeat (first | exact FrP.refl | refine FrP.upd ?_ (by first | exact ⟨hp, by decide⟩ | exact ⟨hs, by decide⟩ | exact ⟨hlB, by decide⟩ | exact ⟨hrB, by decide⟩ | exact ⟨h342.1, by decide⟩ | exact ⟨h378.1, by decide⟩ | exact ⟨h280.1, by decide⟩))) | exact finB _ p _ _ _ _ _ (by rw [hb342]; rfl) hb378 (fun w hw => by have g1 := hrT w hw; have g2 := hsrR w; have g3 := hup w; clear finA finB t tl tp ts hsrR hup hsp hside hrT hpsp hI hinj hB hn; refine ⟨?_, ?_, ?_, ?_⟩ <;> grind (splits := 40) (gen := 40) (ematch := 40) [updF_eq, va_rf]) (by repeat (first | exact FrP.refl | refine FrP.upd ?_ (by first | exact ⟨hp, by decide⟩ | exact ⟨hs, by decide⟩ | exact ⟨hlB, by decide⟩ | exact ⟨hrB, by decide⟩ | exact ⟨h342.1, by decide⟩ | exact ⟨h378.1, by decide⟩ | exact ⟨h280.1, by decide⟩)))
        · refine wa_aloadV (pc := 398) (y := mJ26_removeTreeNode) dJ26_removeTreeNode_398 rfl (by first | exact rf_s _ | exact rf_n | exact rf_q _) ?_
          refine wa_aloadV (pc := 400) (y := mJ26_removeTreeNode) dJ26_removeTreeNode_400 rfl (by first | exact rf_s _ | exact rf_n | exact rf_q _) ?_
          refine wf_put (k := 14) (l := 11) 7 (.object "java/util/HashMap$TreeNode") dJ26_removeTreeNode_402 (by assumption) rfl q1615 (Or.inl rfl) (Nat.le_of_ble_eq_true rfl) rfl (by decide +kernel) (by first | rfl | exact rf_nar _ | exact rf_nar2 _) (by first | rfl | exact rf_fit _ | exact rf_fit2 _) ?_
          refine wa_goto (pc := 405) (y := mJ26_removeTreeNode) 415 dJ26_removeTreeNode_405 rfl ?_
          refine wa_aloadV (pc := 415) (y := mJ26_removeTreeNode) dJ26_removeTreeNode_415 rfl (by first | exact rf_s _ | exact rf_n | exact rf_q _) ?_
          refine wa_ifnullV (pc := 417) 427 dJ26_removeTreeNode_417 rfl (by first | exact rf_s _ | exact rf_n | exact rf_q _) (fun hb417 => ?_) (fun a417 hb417 => ?_)
          · refine wa_aloadV (pc := 427) (y := mJ26_removeTreeNode) dJ26_removeTreeNode_427 rfl (by first | exact rf_s _ | exact rf_n | exact rf_q _) ?_
            refine wa_astoreV (pc := 429) (y := mJ26_removeTreeNode) dJ26_removeTreeNode_429 (Nat.le_of_ble_eq_true rfl) (by first | rfl | (simp [okst, rf_cat] <;> assumption)) (by first | exact rf_s _ | exact rf_n | exact rf_q _) ?_
            simp only [List.set_cons_zero, List.set_cons_succ]
            refine wa_goto (pc := 431) (y := mJ26_removeTreeNode) 462 dJ26_removeTreeNode_431 rfl ?_
            first | (cases hb417; done) | exact finA _ a342 _ _ _ _ _ (by rw [hb342]; rfl) hb378 (fun w hw => by have g1 := hrT w hw; have g2 := hsrR w; have g3 := hup w; clear finA finB t tl tp ts hsrR hup hsp hside hrT hpsp hI hinj hB hn; refine ⟨?_, ?_, ?_, ?_⟩ <;> grind (splits := 40) (gen := 40) (ematch := 40) [updF_eq, va_rf]) (by repeat (first | exact FrP.refl | refine FrP.upd ?_ (by first | exact ⟨hp, by decide⟩ | exact ⟨hs, by decide⟩ | exact ⟨hlB, by decide⟩ | exact ⟨hrB, by decide⟩ | exact ⟨h342.1, by decide⟩ | exact ⟨h378.1, by decide⟩ | exact ⟨h280.1, by decide⟩))) | exact finA _ p _ _ _ _ _ (by rw [hb342]; rfl) hb378 (fun w hw => by have g1 := hrT w hw; have g2 := hsrR w; have g3 := hup w; clear finA finB t tl tp ts hsrR hup hsp hside hrT hpsp hI hinj hB hn; refine ⟨?_, ?_, ?_, ?_⟩ <;> grind (splits := 40) (gen := 40) (ematch := 40) [updF_eq, va_rf]) (by repeat (first | exact FrP.refl | refine FrP.upd ?_ (by first | exact ⟨hp, by decide⟩ | exact ⟨hs, by decide⟩ | exact ⟨hlB, by decide⟩ | exact ⟨hrB, by decide⟩ | exact ⟨h342.1, by decide⟩ | exact ⟨h378.1, by decide⟩ | exact ⟨h280.1, by decide⟩))) | exact finB _ a342 _ _ _ _ _ (by rw [hb342]; rfl) hb378 (fun w hw => by have g1 := hrT w hw; have g2 := hsrR w; have g3 := hup w; clear finA finB t tl tp ts hsrR hup hsp hside hrT hpsp hI hinj hB hn; refine ⟨?_, ?_, ?_, ?_⟩ <;> grind (splits := 40) (gen := 40) (ematch := 40) [updF_eq, va_rf]) (by repeat (first | exact FrP.refl | refine FrP.upd ?_ (by first | exact ⟨hp, by decide⟩ | exact ⟨hs, by decide⟩ | exact ⟨hlB, by decide⟩ | exact ⟨hrB, by decide⟩ | exact ⟨h342.1, by decide⟩ | exact ⟨h378.1, by decide⟩ | exact ⟨h280.1, by decide⟩))) | exact finB _ p _ _ _ _ _ (by rw [hb342]; rfl) hb378 (fun w hw => by have g1 := hrT w hw; have g2 := hsrR w; have g3 := hup w; clear finA finB t tl tp ts hsrR hup hsp hside hrT hpsp hI hinj hB hn; refine ⟨?_, ?_, ?_, ?_⟩ <;> grind (splits := 40) (gen := 40) (ematch := 40) [updF_eq, va_rf]) (by repeat (first | exact FrP.refl | refine FrP.upd ?_ (by first | exact ⟨hp, by decide⟩ | exact ⟨hs, by decide⟩ | exact ⟨hlB, by decide⟩ | exact ⟨hrB, by decide⟩ | exact ⟨h342.1, by decide⟩ | exact ⟨h378.1, by decide⟩ | exact ⟨h280.1, by decide⟩)))
          · refine wa_aloadV (pc := 420) (y := mJ26_removeTreeNode) dJ26_removeTreeNode_420 rfl (by first | exact rf_s _ | exact rf_n | exact rf_q _) ?_
            refine wa_astoreV (pc := 422) (y := mJ26_removeTreeNode) dJ26_removeTreeNode_422 (Nat.le_of_ble_eq_true rfl) (by first | rfl | (simp [okst, rf_cat] <;> assumption)) (by first | exact rf_s _ | exact rf_n | exact rf_q _) ?_
            simp only [List.set_cons_zero, List.set_cons_succ]
            refine wa_goto (pc := 424) (y := mJ26_removeTreeNode) 431 dJ26_removeTreeNode_424 rfl ?_
            refine wa_goto (pc := 431) (y := mJ26_removeTreeNode) 462 dJ26_removeTreeNode_431 rfl ?_
            first | (cases hb417; done) | exact finA _ a342 _ _ _ _ _ (by rw [hb342]; rfl) hb378 (fun w hw => by have g1 := hrT w hw; have g2 := hsrR w; have g3 := hup w; clear finA finB t tl tp ts hsrR hup hsp hside hrT hpsp hI hinj hB hn; refine ⟨?_, ?_, ?_, ?_⟩ <;> grind (splits := 40) (gen := 40) (ematch := 40) [updF_eq, va_rf]) (by repeat (first | exact FrP.refl | refine FrP.upd ?_ (by first | exact ⟨hp, by decide⟩ | exact ⟨hs, by decide⟩ | exact ⟨hlB, by decide⟩ | exact ⟨hrB, by decide⟩ | exact ⟨h342.1, by decide⟩ | exact ⟨h378.1, by decide⟩ | exact ⟨h280.1, by decide⟩))) | exact finA _ p _ _ _ _ _ (by rw [hb342]; rfl) hb378 (fun w hw => by have g1 := hrT w hw; have g2 := hsrR w; have g3 := hup w; clear finA finB t tl tp ts hsrR hup hsp hside hrT hpsp hI hinj hB hn; refine ⟨?_, ?_, ?_, ?_⟩ <;> grind (splits := 40) (gen := 40) (ematch := 40) [updF_eq, va_rf]) (by repeat (first | exact FrP.refl | refine FrP.upd ?_ (by first | exact ⟨hp, by decide⟩ | exact ⟨hs, by decide⟩ | exact ⟨hlB, by decide⟩ | exact ⟨hrB, by decide⟩ | exact ⟨h342.1, by decide⟩ | exact ⟨h378.1, by decide⟩ | exact ⟨h280.1, by decide⟩))) | exact finB _ a342 _ _ _ _ _ (by rw [hb342]; rfl) hb378 (fun w hw => by have g1 := hrT w hw; have g2 := hsrR w; have g3 := hup w; clear finA finB t tl tp ts hsrR hup hsp hside hrT hpsp hI hinj hB hn; refine ⟨?_, ?_, ?_, ?_⟩ <;> grind (splits := 40) (gen := 40) (ematch := 40) [updF_eq, va_rf]) (by repeat (first | exact FrP.refl | refine FrP.upd ?_ (by first | exact ⟨hp, by decide⟩ | exact ⟨hs, by decide⟩ | exact ⟨hlB, by decide⟩ | exact ⟨hrB, by decide⟩ | exact ⟨h342.1, by decide⟩ | exact ⟨h378.1, by decide⟩ | exact ⟨h280.1, by decide⟩))) | exact finB _ p _ _ _ _ _ (by rw [hb342]; rfl) hb378 (fun w hw => by have g1 := hrT w hw; have g2 := hsrR w; have g3 := hup w; clear finA finB t tl tp ts hsrR hup hsp hside hrT hpsp hI hinj hB hn; refine ⟨?_, ?_, ?_, ?_⟩ <;> grind (splits := 40) (gen := 40) (ematch := 40) [updF_eq, va_rf]) (by repeat (first | exact FrP.refl | refine FrP.upd ?_ (by first | exact ⟨hp, by decide⟩ | exact ⟨hs, by decide⟩ | exact ⟨hlB, by decide⟩ | exact ⟨hrB, by decide⟩ | exact ⟨h342.1, by decide⟩ | exact ⟨h378.1, by decide⟩ | exact ⟨h280.1, by decide⟩)))
      · rw [hb378]
        refine wa_aloadV (pc := 381) (y := mJ26_removeTreeNode) dJ26_removeTreeNode_381 rfl (by first | exact rf_s _ | exact rf_n | exact rf_q _) ?_
        refine wa_astoreV (pc := 383) (y := mJ26_removeTreeNode) dJ26_removeTreeNode_383 (Nat.le_of_ble_eq_true rfl) (by first | rfl | (simp [okst, rf_cat] <;> assumption)) (by first | exact rf_s _ | exact rf_n | exact rf_q _) ?_
        simp only [List.set_cons_zero, List.set_cons_succ]
        refine wa_goto (pc := 385) (y := mJ26_removeTreeNode) 415 dJ26_removeTreeNode_385 rfl ?_
        refine wa_aloadV (pc := 415) (y := mJ26_removeTreeNode) dJ26_removeTreeNode_415 rfl (by first | exact rf_s _ | exact rf_n | exact rf_q _) ?_
        refine wa_ifnullV (pc := 417) 427 dJ26_removeTreeNode_417 rfl (by first | exact rf_s _ | exact rf_n | exact rf_q _) (fun hb417 => ?_) (fun a417 hb417 => ?_)
        · refine wa_aloadV (pc := 427) (y := mJ26_removeTreeNode) dJ26_removeTreeNode_427 rfl (by first | exact rf_s _ | exact rf_n | exact rf_q _) ?_
          refine wa_astoreV (pc := 429) (y := mJ26_removeTreeNode) dJ26_removeTreeNode_429 (Nat.le_of_ble_eq_true rfl) (by first | rfl | (simp [okst, rf_cat] <;> assumption)) (by first | exact rf_s _ | exact rf_n | exact rf_q _) ?_
          simp only [List.set_cons_zero, List.set_cons_succ]
          refine wa_goto (pc := 431) (y := mJ26_removeTreeNode) 462 dJ26_removeTreeNode_431 rfl ?_
          first | (cases hb417; done) | exact finA _ a342 _ _ _ _ _ (by rw [hb342]; rfl) hb378 (fun w hw => by have g1 := hrT w hw; have g2 := hsrR w; have g3 := hup w; clear finA finB t tl tp ts hsrR hup hsp hside hrT hpsp hI hinj hB hn; refine ⟨?_, ?_, ?_, ?_⟩ <;> grind (splits := 40) (gen := 40) (ematch := 40) [updF_eq, va_rf]) (by repeat (first | exact FrP.refl | refine FrP.upd ?_ (by first | exact ⟨hp, by decide⟩ | exact ⟨hs, by decide⟩ | exact ⟨hlB, by decide⟩ | exact ⟨hrB, by decide⟩ | exact ⟨h342.1, by decide⟩ | exact ⟨h378.1, by decide⟩ | exact ⟨h280.1, by decide⟩))) | exact finA _ p _ _ _ _ _ (by rw [hb342]; rfl) hb378 (fun w hw => by have g1 := hrT w hw; have g2 := hsrR w; have g3 := hup w; clear finA finB t tl tp ts hsrR hup hsp hside hrT hpsp hI hinj hB hn; refine ⟨?_, ?_, ?_, ?_⟩ <;> grind (splits := 40) (gen := 40) (ematch := 40) [updF_eq, va_rf]) (by repeat (first | exact FrP.refl | refine FrP.upd ?_ (by first | exact ⟨hp, by decide⟩ | exact ⟨hs, by decide⟩ | exact ⟨hlB, by decide⟩ | exact ⟨hrB, by decide⟩ | exact ⟨h342.1, by decide⟩ | exact ⟨h378.1, by decide⟩ | exact ⟨h280.1, by decide⟩))) | exact finB _ a342 _ _ _ _ _ (by rw [hb342]; rfl) hb378 (fun w hw => by have g1 := hrT w hw; have g2 := hsrR w; have g3 := hup w; clear finA finB t tl tp ts hsrR hup hsp hside hrT hpsp hI hinj hB hn; refine ⟨?_, ?_, ?_, ?_⟩ <;> grind (splits := 40) (gen := 40) (ematch := 40) [updF_eq, va_rf]) (by repeat (first | exact FrP.refl | refine FrP.upd ?_ (by first | exact ⟨hp, by decide⟩ | exact ⟨hs, by decide⟩ | exact ⟨hlB, by decide⟩ | exact ⟨hrB, by decide⟩ | exact ⟨h342.1, by decide⟩ | exact ⟨h378.1, by decide⟩ | exact ⟨h280.1, by decide⟩))) | exact finB _ p _ _ _ _ _ (by rw [hb342]; rfl) hb378 (fun w hw => by have g1 := hrT w hw; have g2 := hsrR w; have g3 := hup w; clear finA finB t tl tp ts hsrR hup hsp hside hrT hpsp hI hinj hB hn; refine ⟨?_, ?_, ?_, ?_⟩ <;> grind (splits := 40) (gen := 40) (ematch := 40) [updF_eq, va_rf]) (by repeat (first | exact FrP.refl | refine FrP.upd ?_ (by first | exact ⟨hp, by decide⟩ | exact ⟨hs, by decide⟩ | exact ⟨hlB, by decide⟩ | exact ⟨hrB, by decide⟩ | exact ⟨h342.1, by decide⟩ | exact ⟨h378.1, by decide⟩ | exact ⟨h280.1, by decide⟩)))
        · refine wa_aloadV (pc := 420) (y := mJ26_removeTreeNode) dJ26_removeTreeNode_420 rfl (by first | exact rf_s _ | exact rf_n | exact rf_q _) ?_
          refine wa_astoreV (pc := 422) (y := mJ26_removeTreeNode) dJ26_removeTreeNode_422 (Nat.le_of_ble_eq_true rfl) (by first | rfl | (simp [okst, rf_cat] <;> assumption)) (by first | exact rf_s _ | exact rf_n | exact rf_q _) ?_
          simp only [List.set_cons_zero, List.set_cons_succ]
          refine wa_goto (pc := 424) (y := mJ26_removeTreeNode) 431 dJ26_removeTreeNode_424 rfl ?_
          refine wa_goto (pc := 431) (y := mJ26_removeTreeNode) 462 dJ26_removeTreeNode_431 rfl ?_
          first | (cases hb417; done) | exact finA _ a342 _ _ _ _ _ (by rw [hb342]; rfl) hb378 (fun w hw => by have g1 := hrT w hw; have g2 := hsrR w; have g3 := hup w; clear finA finB t tl tp ts hsrR hup hsp hside hrT hpsp hI hinj hB hn; refine ⟨?_, ?_, ?_, ?_⟩ <;> grind (splits := 40) (gen := 40) (ematch := 40) [updF_eq, va_rf]) (by repeat (first | exact FrP.refl | refine FrP.upd ?_ (by first | exact ⟨hp, by decide⟩ | exact ⟨hs, by decide⟩ | exact ⟨hlB, by decide⟩ | exact ⟨hrB, by decide⟩ | exact ⟨h342.1, by decide⟩ | exact ⟨h378.1, by decide⟩ | exact ⟨h280.1, by decide⟩))) | exact finA _ p _ _ _ _ _ (by rw [hb342]; rfl) hb378 (fun w hw => by have g1 := hrT w hw; have g2 := hsrR w; have g3 := hup w; clear finA finB t tl tp ts hsrR hup hsp hside hrT hpsp hI hinj hB hn; refine ⟨?_, ?_, ?_, ?_⟩ <;> grind (splits := 40) (gen := 40) (ematch := 40) [updF_eq, va_rf]) (by repeat (first | exact FrP.refl | refine FrP.upd ?_ (by first | exact ⟨hp, by decide⟩ | exact ⟨hs, by decide⟩ | exact ⟨hlB, by decide⟩ | exact ⟨hrB, by decide⟩ | exact ⟨h342.1, by decide⟩ | exact ⟨h378.1, by decide⟩ | exact ⟨h280.1, by decide⟩))) | exact finB _ a342 _ _ _ _ _ (by rw [hb342]; rfl) hb378 (fun w hw => by have g1 := hrT w hw; have g2 := hsrR w; have g3 := hup w; clear finA finB t tl tp ts hsrR hup hsp hside hrT hpsp hI hinj hB hn; refine ⟨?_, ?_, ?_, ?_⟩ <;> grind (splits := 40) (gen := 40) (ematch := 40) [updF_eq, va_rf]) (by repeat (first | exact FrP.refl | refine FrP.upd ?_ (by first | exact ⟨hp, by decide⟩ | exact ⟨hs, by decide⟩ | exact ⟨hlB, by decide⟩ | exact ⟨hrB, by decide⟩ | exact ⟨h342.1, by decide⟩ | exact ⟨h378.1, by decide⟩ | exact ⟨h280.1, by decide⟩))) | exact finB _ p _ _ _ _ _ (by rw [hb342]; rfl) hb378 (fun w hw => by have g1 := hrT w hw; have g2 := hsrR w; have g3 := hup w; clear finA finB t tl tp ts hsrR hup hsp hside hrT hpsp hI hinj hB hn; refine ⟨?_, ?_, ?_, ?_⟩ <;> grind (splits := 40) (gen := 40) (ematch := 40) [updF_eq, va_rf]) (by repeat (first | exact FrP.refl | refine FrP.upd ?_ (by first | exact ⟨hp, by decide⟩ | exact ⟨hs, by decide⟩ | exact ⟨hlB, by decide⟩ | exact ⟨hrB, by decide⟩ | exact ⟨h342.1, by decide⟩ | exact ⟨h378.1, by decide⟩ | exact ⟨h280.1, by decide⟩)))
  · have hepr : s = pr := Option.some.inj hb245
    refine wa_aloadV (pc := 248) (y := mJ26_removeTreeNode) dJ26_removeTreeNode_248 rfl (by first | exact rf_s _ | exact rf_n | exact rf_q _) ?_
    refine wa_aloadV (pc := 250) (y := mJ26_removeTreeNode) dJ26_removeTreeNode_250 rfl (by first | exact rf_s _ | exact rf_n | exact rf_q _) ?_
    refine wf_put (k := 14) (l := 11) 6 (.object "java/util/HashMap$TreeNode") dJ26_removeTreeNode_252 (by assumption) rfl q1614 (Or.inl rfl) (Nat.le_of_ble_eq_true rfl) rfl (by decide +kernel) (by first | rfl | exact rf_nar _ | exact rf_nar2 _) (by first | rfl | exact rf_fit _ | exact rf_fit2 _) ?_
    refine wa_aloadV (pc := 255) (y := mJ26_removeTreeNode) dJ26_removeTreeNode_255 rfl (by first | exact rf_s _ | exact rf_n | exact rf_q _) ?_
    refine wa_aloadV (pc := 257) (y := mJ26_removeTreeNode) dJ26_removeTreeNode_257 rfl (by first | exact rf_s _ | exact rf_n | exact rf_q _) ?_
    refine wf_put (k := 14) (l := 11) 8 (.object "java/util/HashMap$TreeNode") dJ26_removeTreeNode_259 (by assumption) rfl q1616 (Or.inl rfl) (Nat.le_of_ble_eq_true rfl) rfl (by decide +kernel) (by first | rfl | exact rf_nar _ | exact rf_nar2 _) (by first | rfl | exact rf_fit _ | exact rf_fit2 _) ?_
    refine wa_goto (pc := 262) (y := mJ26_removeTreeNode) 328 dJ26_removeTreeNode_262 rfl ?_
    refine wa_aloadV (pc := 328) (y := mJ26_removeTreeNode) dJ26_removeTreeNode_328 rfl (by first | exact rf_s _ | exact rf_n | exact rf_q _) ?_
    refine wa_null (pc := 330) (y := mJ26_removeTreeNode) dJ26_removeTreeNode_330 ?_
    refine wf_put (k := 14) (l := 11) 7 (.object "java/util/HashMap$TreeNode") dJ26_removeTreeNode_331 (by assumption) rfl q1615 (Or.inl rfl) (Nat.le_of_ble_eq_true rfl) rfl (by decide +kernel) (by first | rfl | exact rf_nar _ | exact rf_nar2 _) (by first | rfl | exact rf_fit _ | exact rf_fit2 _) ?_
    refine wa_aloadV (pc := 334) (y := mJ26_removeTreeNode) dJ26_removeTreeNode_334 rfl (by first | exact rf_s _ | exact rf_n | exact rf_q _) ?_
    refine wa_aloadV (pc := 336) (y := mJ26_removeTreeNode) dJ26_removeTreeNode_336 rfl (by first | exact rf_s _ | exact rf_n | exact rf_q _) ?_
    refine wa_dup_x1 (pc := 338) (y := mJ26_removeTreeNode) dJ26_removeTreeNode_338 (by first | rfl | exact rf_cat _) (by first | rfl | exact rf_cat _) ?_
    refine wf_put (k := 14) (l := 11) 8 (.object "java/util/HashMap$TreeNode") dJ26_removeTreeNode_339 (by assumption) rfl q1616 (Or.inl rfl) (Nat.le_of_ble_eq_true rfl) rfl (by decide +kernel) (by first | rfl | exact rf_nar _ | exact rf_nar2 _) (by first | rfl | exact rf_fit _ | exact rf_fit2 _) ?_
    refine wa_ifnullV (pc := 342) 352 dJ26_removeTreeNode_342 rfl (by first | exact rf_s _ | exact rf_n | exact rf_q _) (fun hb342 => ?_) (fun a342 hb342 => ?_)
    · rw [hb342]
      refine wa_aloadV (pc := 352) (y := mJ26_removeTreeNode) dJ26_removeTreeNode_352 rfl (by first | exact rf_s _ | exact rf_n | exact rf_q _) ?_
      refine wa_aloadV (pc := 354) (y := mJ26_removeTreeNode) dJ26_removeTreeNode_354 rfl (by first | exact rf_s _ | exact rf_n | exact rf_q _) ?_
      refine wa_dup_x1 (pc := 356) (y := mJ26_removeTreeNode) dJ26_removeTreeNode_356 (by first | rfl | exact rf_cat _) (by first | rfl | exact rf_cat _) ?_
      refine wf_put (k := 14) (l := 11) 7 (.object "java/util/HashMap$TreeNode") dJ26_removeTreeNode_357 (by assumption) rfl q1615 (Or.inl rfl) (Nat.le_of_ble_eq_true rfl) rfl (by decide +kernel) (by first | rfl | exact rf_nar _ | exact rf_nar2 _) (by first | rfl | exact rf_fit _ | exact rf_fit2 _) ?_
      refine wa_ifnull (pc := 360) (y := mJ26_removeTreeNode) dJ26_removeTreeNode_360 ?_
      refine wa_aloadV (pc := 363) (y := mJ26_removeTreeNode) dJ26_removeTreeNode_363 rfl (by first | exact rf_s _ | exact rf_n | exact rf_q _) ?_
      refine wa_aloadV (pc := 365) (y := mJ26_removeTreeNode) dJ26_removeTreeNode_365 rfl (by first | exact rf_s _ | exact rf_n | exact rf_q _) ?_
      refine wf_put (k := 14) (l := 11) 6 (.object "java/util/HashMap$TreeNode") dJ26_removeTreeNode_367 (by assumption) rfl q1614 (Or.inl rfl) (Nat.le_of_ble_eq_true rfl) rfl (by decide +kernel) (by first | rfl | exact rf_nar _ | exact rf_nar2 _) (by first | rfl | exact rf_fit _ | exact rf_fit2 _) ?_
      refine wa_aloadV (pc := 370) (y := mJ26_removeTreeNode) dJ26_removeTreeNode_370 rfl (by first | exact rf_s _ | exact rf_n | exact rf_q _) ?_
      refine wa_aloadV (pc := 372) (y := mJ26_removeTreeNode) dJ26_removeTreeNode_372 rfl (by first | exact rf_s _ | exact rf_n | exact rf_q _) ?_
      refine wa_dup_x1 (pc := 374) (y := mJ26_removeTreeNode) dJ26_removeTreeNode_374 (by first | rfl | exact rf_cat _) (by first | rfl | exact rf_cat _) ?_
      refine wf_put (k := 14) (l := 11) 6 (.object "java/util/HashMap$TreeNode") dJ26_removeTreeNode_375 (by assumption) rfl q1614 (Or.inl rfl) (Nat.le_of_ble_eq_true rfl) rfl (by decide +kernel) (by first | rfl | exact rf_nar _ | exact rf_nar2 _) (by first | rfl | exact rf_fit _ | exact rf_fit2 _) ?_
      refine wa_ifnonnullV (pc := 378) 388 dJ26_removeTreeNode_378 rfl (by first | exact rf_s _ | exact rf_n | exact rf_q _) (fun a378 hb378 => ?_) (fun hb378 => ?_)
      · have h378 := hup _ hb378
        have hI378 := hI _ h378.1
        obtain ⟨x1, x2, x3, x4, x5⟩ := tl _ h378.1
        try have hne9 : a378 ≠ a280 := hpsp _ _ hb378 hb280 hnpr
        rw [hb378]
        refine wa_aloadV (pc := 388) (y := mJ26_removeTreeNode) dJ26_removeTreeNode_388 rfl (by first | exact rf_s _ | exact rf_n | exact rf_q _) ?_
        refine wa_aloadV (pc := 390) (y := mJ26_removeTreeNode) dJ26_removeTreeNode_390 rfl (by first | exact rf_s _ | exact rf_n | exact rf_q _) ?_
        refine wf_get (k := 14) (l := 11) 7 dJ26_removeTreeNode_392 (by assumption) rfl q1615 (Or.inl rfl) (Nat.le_of_ble_eq_true rfl) (Nat.le_of_ble_eq_true rfl) (by (repeat (first | exact updF_self _ _ _ _ | (apply updF_i; · decide) | (apply updF_a; · first | assumption | (apply Ne.symm; assumption) | omega) | (apply newF_a; · first | assumption | (apply Ne.symm; assumption) | omega) | exact newL_self (by rfl) | exact newF_self (by rfl) | (apply cpyF_a; · first | assumption | (apply Ne.symm; assumption) | omega))) <;> first | assumption | rfl) ?_
        refine wa_acneV (pc := 395) 408 dJ26_removeTreeNode_395 rfl (by first | exact rf_s _ | exact rf_n | exact rf_q _) (by first | exact rf_s _ | exact rf_n | exact rf_q _) (fun hb395 => ?_) (fun hb395 => ?_)
        · refine wa_aloadV (pc := 408) (y := mJ26_removeTreeNode) dJ26_removeTreeNode_408 rfl (by first | exact rf_s _ | exact rf_n | exact rf_q _) ?_
          refine wa_aloadV (pc := 410) (y := mJ26_removeTreeNode) dJ26_removeTreeNode_410 rfl (by first | exact rf_s _ | exact rf_n | exact rf_q _) ?_
          refine wf_put (k := 14) (l := 11) 8 (.object "java/util/HashMap$TreeNode") dJ26_removeTreeNode_412 (by assumption) rfl q1616 (Or.inl rfl) (Nat.le_of_ble_eq_true rfl) rfl (by decide +kernel) (by first | rfl | exact rf_nar _ | exact rf_nar2 _) (by first | rfl | exact rf_fit _ | exact rf_fit2 _) ?_
          refine wa_aloadV (pc := 415) (y := mJ26_removeTreeNode) dJ26_removeTreeNode_415 rfl (by first | exact rf_s _ | exact rf_n | exact rf_q _) ?_
          refine wa_ifnullV (pc := 417) 427 dJ26_removeTreeNode_417 rfl (by first | exact rf_s _ | exact rf_n | exact rf_q _) (fun hb417 => ?_) (fun a417 hb417 => ?_)
          · refine wa_aloadV (pc := 427) (y := mJ26_removeTreeNode) dJ26_removeTreeNode_427 rfl (by first | exact rf_s _ | exact rf_n | exact rf_q _) ?_
            refine wa_astoreV (pc := 429) (y := mJ26_removeTreeNode) dJ26_removeTreeNode_429 (Nat.le_of_ble_eq_true rfl) (by first | rfl | (simp [okst, rf_cat] <;> assumption)) (by first | exact rf_s _ | exact rf_n | exact rf_q _) ?_
            simp only [List.set_cons_zero, List.set_cons_succ]
            refine wa_goto (pc := 431) (y := mJ26_removeTreeNode) 462 dJ26_removeTreeNode_431 rfl ?_
            first | (cases hb417; done) | exact finA _ a342 _ _ _ _ _ (by rw [hb342]; rfl) hb378 (fun w hw => by have g1 := hrT w hw; have g2 := hsrR w; have g3 := hup w; clear finA finB t tl tp ts hsrR hup hsp hside hrT hpsp hI hinj hB hn; refine ⟨?_, ?_, ?_, ?_⟩ <;> grind (splits := 40) (gen := 40) (ematch := 40) [updF_eq, va_rf]) (by repeat (first | exact FrP.refl | refine FrP.upd ?_ (by first | exact ⟨hp, by decide⟩ | exact ⟨hs, by decide⟩ | exact ⟨hlB, by decide⟩ | exact ⟨hrB, by decide⟩ | exact ⟨h342.1, by decide⟩ | exact ⟨h378.1, by decide⟩ | exact ⟨h280.1, by decide⟩))) | exact finA _ p _ _ _ _ _ (by rw [hb342]; rfl) hb378 (fun w hw => by have g1 := hrT w hw; have g2 := hsrR w; have g3 := hup w; clear finA finB t tl tp ts hsrR hup hsp hside hrT hpsp hI hinj hB hn; refine ⟨?_, ?_, ?_, ?_⟩ <;> grind (splits := 40) (gen := 40) (ematch := 40) [updF_eq, va_rf]) (by repeat (first | exact FrP.refl | refine FrP.upd ?_ (by first | exact ⟨hp, by decide⟩ | exact ⟨hs, by decide⟩ | exact ⟨hlB, by decide⟩ | exact ⟨hrB, by decide⟩ | exact ⟨h342.1, by decide⟩ | exact ⟨h378.1, by decide⟩ | exact ⟨h280.1, by decide⟩))) | exact finB _ a342 _ _ _ _ _ (by rw [hb342]; rfl) hb378 (fun w hw => by have g1 := hrT w hw; have g2 := hsrR w; have g3 := hup w; clear finA finB t tl tp ts hsrR hup hsp hside hrT hpsp hI hinj hB hn; refine ⟨?_, ?_, ?_, ?_⟩ <;> grind (splits := 40) (gen := 40) (ematch := 40) [updF_eq, va_rf]) (by repeat (first | exact FrP.refl | refine FrP.upd ?_ (by first | exact ⟨hp, by decide⟩ | exact ⟨hs, by decide⟩ | exact ⟨hlB, by decide⟩ | exact ⟨hrB, by decide⟩ | exact ⟨h342.1, by decide⟩ | exact ⟨h378.1, by decide⟩ | exact ⟨h280.1, by decide⟩))) | exact finB _ p _ _ _ _ _ (by rw [hb342]; rfl) hb378 (fun w hw => by have g1 := hrT w hw; have g2 := hsrR w; have g3 := hup w; clear finA finB t tl tp ts hsrR hup hsp hside hrT hpsp hI hinj hB hn; refine ⟨?_, ?_, ?_, ?_⟩ <;> grind (splits := 40) (gen := 40) (ematch := 40) [updF_eq, va_rf]) (by repeat (first | exact FrP.refl | refine FrP.upd ?_ (by first | exact ⟨hp, by decide⟩ | exact ⟨hs, by decide⟩ | exact ⟨hlB, by decide⟩ | exact ⟨hrB, by decide⟩ | exact ⟨h342.1, by decide⟩ | exact ⟨h378.1, by decide⟩ | exact ⟨h280.1, by decide⟩)))
          · refine wa_aloadV (pc := 420) (y := mJ26_removeTreeNode) dJ26_removeTreeNode_420 rfl (by first | exact rf_s _ | exact rf_n | exact rf_q _) ?_
            refine wa_astoreV (pc := 422) (y := mJ26_removeTreeNode) dJ26_removeTreeNode_422 (Nat.le_of_ble_eq_true rfl) (by first | rfl | (simp [okst, rf_cat] <;> assumption)) (by first | exact rf_s _ | exact rf_n | exact rf_q _) ?_
            simp only [List.set_cons_zero, List.set_cons_succ]
            refine wa_goto (pc := 424) (y := mJ26_removeTreeNode) 431 dJ26_removeTreeNode_424 rfl ?_
            refine wa_goto (pc := 431) (y := mJ26_removeTreeNode) 462 dJ26_removeTreeNode_431 rfl ?_
            first | (cases hb417; done) | exact finA _ a342 _ _ _ _ _ (by rw [hb342]; rfl) hb378 (fun w hw => by have g1 := hrT w hw; have g2 := hsrR w; have g3 := hup w; clear finA finB t tl tp ts hsrR hup hsp hside hrT hpsp hI hinj hB hn; refine ⟨?_, ?_, ?_, ?_⟩ <;> grind (splits := 40) (gen := 40) (ematch := 40) [updF_eq, va_rf]) (by repeat (first | exact FrP.refl | refine FrP.upd ?_ (by first | exact ⟨hp, by decide⟩ | exact ⟨hs, by decide⟩ | exact ⟨hlB, by decide⟩ | exact ⟨hrB, by decide⟩ | exact ⟨h342.1, by decide⟩ | exact ⟨h378.1, by decide⟩ | exact ⟨h280.1, by decide⟩))) | exact finA _ p _ _ _ _ _ (by rw [hb342]; rfl) hb378 (fun w hw => by have g1 := hrT w hw; have g2 := hsrR w; have g3 := hup w; clear finA finB t tl tp ts hsrR hup hsp hside hrT hpsp hI hinj hB hn; refine ⟨?_, ?_, ?_, ?_⟩ <;> grind (splits := 40) (gen := 40) (ematch := 40) [updF_eq, va_rf]) (by repeat (first | exact FrP.refl | refine FrP.upd ?_ (by first | exact ⟨hp, by decide⟩ | exact ⟨hs, by decide⟩ | exact ⟨hlB, by decide⟩ | exact ⟨hrB, by decide⟩ | exact ⟨h342.1, by decide⟩ | exact ⟨h378.1, by decide⟩ | exact ⟨h280.1, by decide⟩))) | exact finB _ a342 _ _ _ _ _ (by rw [hb342]; rfl) hb378 (fun w hw => by have g1 := hrT w hw; have g2 := hsrR w; have g3 := hup w; clear finA finB t tl tp ts hsrR hup hsp hside hrT hpsp hI hinj hB hn; refine ⟨?_, ?_, ?_, ?_⟩ <;> grind (splits := 40) (gen := 40) (ematch := 40) [updF_eq, va_rf]) (by repeat (first | exact FrP.refl | refine FrP.upd ?_ (by first | exact ⟨hp, by decide⟩ | exact ⟨hs, by decide⟩ | exact ⟨hlB, by decide⟩ | exact ⟨hrB, by decide⟩ | exact ⟨h342.1, by decide⟩ | exact ⟨h378.1, by decide⟩ | exact ⟨h280.1, by decide⟩))) | exact finB _ p _ _ _ _ _ (by rw [hb342]; rfl) hb378 (fun w hw => by have g1 := hrT w hw; have g2 := hsrR w; have g3 := hup w; clear finA finB t tl tp ts hsrR hup hsp hside hrT hpsp hI hinj hB hn; refine ⟨?_, ?_, ?_, ?_⟩ <;> grind (splits := 40) (gen := 40) (ematch := 40) [updF_eq, va_rf]) (by repeat (first | exact FrP.refl | refine FrP.upd ?_ (by first | exact ⟨hp, by decide⟩ | exact ⟨hs, by decide⟩ | exact ⟨hlB, by decide⟩ | exact ⟨hrB, by decide⟩ | exact ⟨h342.1, by decide⟩ | exact ⟨h378.1, by decide⟩ | exact ⟨h280.1, by decide⟩)))
        · refine wa_aloadV (pc := 398) (y := mJ26_removeTreeNode) dJ26_removeTreeNode_398 rfl (by first | exact rf_s _ | exact rf_n | exact rf_q _) ?_
          refine wa_aloadV (pc := 400) (y := mJ26_removeTreeNode) dJ26_removeTreeNode_400 rfl (by first | exact rf_s _ | exact rf_n | exact rf_q _) ?_
          refine wf_put (k := 14) (l := 11) 7 (.object "java/util/HashMap$TreeNode") dJ26_removeTreeNode_402 (by assumption) rfl q1615 (Or.inl rfl) (Nat.le_of_ble_eq_true rfl) rfl (by decide +kernel) (by first | rfl | exact rf_nar _ | exact rf_nar2 _) (by first | rfl | exact rf_fit _ | exact rf_fit2 _) ?_
          refine wa_goto (pc := 405) (y := mJ26_removeTreeNode) 415 dJ26_removeTreeNode_405 rfl ?_
          refine wa_aloadV (pc := 415) (y := mJ26_removeTreeNode) dJ26_removeTreeNode_415 rfl (by first | exact rf_s _ | exact rf_n | exact rf_q _) ?_
          refine wa_ifnullV (pc := 417) 427 dJ26_removeTreeNode_417 rfl (by first | exact rf_s _ | exact rf_n | exact rf_q _) (fun hb417 => ?_) (fun a417 hb417 => ?_)
          · refine wa_aloadV (pc := 427) (y := mJ26_removeTreeNode) dJ26_removeTreeNode_427 rfl (by first | exact rf_s _ | exact rf_n | exact rf_q _) ?_
            refine wa_astoreV (pc := 429) (y := mJ26_removeTreeNode) dJ26_removeTreeNode_429 (Nat.le_of_ble_eq_true rfl) (by first | rfl | (simp [okst, rf_cat] <;> assumption)) (by first | exact rf_s _ | exact rf_n | exact rf_q _) ?_
            simp only [List.set_cons_zero, List.set_cons_succ]
            refine wa_goto (pc := 431) (y := mJ26_removeTreeNode) 462 dJ26_removeTreeNode_431 rfl ?_
            first | (cases hb417; done) | exact finA _ a342 _ _ _ _ _ (by rw [hb342]; rfl) hb378 (fun w hw => by have g1 := hrT w hw; have g2 := hsrR w; have g3 := hup w; clear finA finB t tl tp ts hsrR hup hsp hside hrT hpsp hI hinj hB hn; refine ⟨?_, ?_, ?_, ?_⟩ <;> grind (splits := 40) (gen := 40) (ematch := 40) [updF_eq, va_rf]) (by repeat (first | exact FrP.refl | refine FrP.upd ?_ (by first | exact ⟨hp, by decide⟩ | exact ⟨hs, by decide⟩ | exact ⟨hlB, by decide⟩ | exact ⟨hrB, by decide⟩ | exact ⟨h342.1, by decide⟩ | exact ⟨h378.1, by decide⟩ | exact ⟨h280.1, by decide⟩))) | exact finA _ p _ _ _ _ _ (by rw [hb342]; rfl) hb378 (fun w hw => by have g1 := hrT w hw; have g2 := hsrR w; have g3 := hup w; clear finA finB t tl tp ts hsrR hup hsp hside hrT hpsp hI hinj hB hn; refine ⟨?_, ?_, ?_, ?_⟩ <;> grind (splits := 40) (gen := 40) (ematch := 40) [updF_eq, va_rf]) (by repeat (first | exact FrP.refl | refine FrP.upd ?_ (by first | exact ⟨hp, by decide⟩ | exact ⟨hs, by decide⟩ | exact ⟨hlB, by decide⟩ | exact ⟨hrB, by decide⟩ | exact ⟨h342.1, by decide⟩ | exact ⟨h378.1, by decide⟩ | exact ⟨h280.1, by decide⟩))) | exact finB _ a342 _ _ _ _ _ (by rw [hb342]; rfl) hb378 (fun w hw => by have g1 := hrT w hw; have g2 := hsrR w; have g3 := hup w; clear finA finB t tl tp ts hsrR hup hsp hside hrT hpsp hI hinj hB hn; refine ⟨?_, ?_, ?_, ?_⟩ <;> grind (splits := 40) (gen := 40) (ematch := 40) [updF_eq, va_rf]) (by repeat (first | exact FrP.refl | refine FrP.upd ?_ (by first | exact ⟨hp, by decide⟩ | exact ⟨hs, by decide⟩ | exact ⟨hlB, by decide⟩ | exact ⟨hrB, by decide⟩ | exact ⟨h342.1, by decide⟩ | exact ⟨h378.1, by decide⟩ | exact ⟨h280.1, by decide⟩))) | exact finB _ p _ _ _ _ _ (by rw [hb342]; rfl) hb378 (fun w hw => by have g1 := hrT w hw; have g2 := hsrR w; have g3 := hup w; clear finA finB t tl tp ts hsrR hup hsp hside hrT hpsp hI hinj hB hn; refine ⟨?_, ?_, ?_, ?_⟩ <;> grind (splits := 40) (gen := 40) (ematch := 40) [updF_eq, va_rf]) (by repeat (first | exact FrP.refl | refine FrP.upd ?_ (by first | exact ⟨hp, by decide⟩ | exact ⟨hs, by decide⟩ | exact ⟨hlB, by decide⟩ | exact ⟨hrB, by decide⟩ | exact ⟨h342.1, by decide⟩ | exact ⟨h378.1, by decide⟩ | exact ⟨h280.1, by decide⟩)))
          · refine wa_aloadV (pc := 420) (y := mJ26_removeTreeNode) dJ26_removeTreeNode_420 rfl (by first | exact rf_s _ | exact rf_n | exact rf_q _) ?_
            refine wa_astoreV (pc := 422) (y := mJ26_removeTreeNode) dJ26_removeTreeNode_422 (Nat.le_of_ble_eq_true rfl) (by first | rfl | (simp [okst, rf_cat] <;> assumption)) (by first | exact rf_s _ | exact rf_n | exact rf_q _) ?_
            simp only [List.set_cons_zero, List.set_cons_succ]
            refine wa_goto (pc := 424) (y := mJ26_removeTreeNode) 431 dJ26_removeTreeNode_424 rfl ?_
            refine wa_goto (pc := 431) (y := mJ26_removeTreeNode) 462 dJ26_removeTreeNode_431 rfl ?_
            first | (cases hb417; done) | exact finA _ a342 _ _ _ _ _ (by rw [hb342]; rfl) hb378 (fun w hw => by have g1 := hrT w hw; have g2 := hsrR w; have g3 := hup w; clear finA finB t tl tp ts hsrR hup hsp hside hrT hpsp hI hinj hB hn; refine ⟨?_, ?_, ?_, ?_⟩ <;> grind (splits := 40) (gen := 40) (ematch := 40) [updF_eq, va_rf]) (by repeat (first | exact FrP.refl | refine FrP.upd ?_ (by first | exact ⟨hp, by decide⟩ | exact ⟨hs, by decide⟩ | exact ⟨hlB, by decide⟩ | exact ⟨hrB, by decide⟩ | exact ⟨h342.1, by decide⟩ | exact ⟨h378.1, by decide⟩ | exact ⟨h280.1, by decide⟩))) | exact finA _ p _ _ _ _ _ (by rw [hb342]; rfl) hb378 (fun w hw => by have g1 := hrT w hw; have g2 := hsrR w; have g3 := hup w; clear finA finB t tl tp ts hsrR hup hsp hside hrT hpsp hI hinj hB hn; refine ⟨?_, ?_, ?_, ?_⟩ <;> grind (splits := 40) (gen := 40) (ematch := 40) [updF_eq, va_rf]) (by repeat (first | exact FrP.refl | refine FrP.upd ?_ (by first | exact ⟨hp, by decide⟩ | exact ⟨hs, by decide⟩ | exact ⟨hlB, by decide⟩ | exact ⟨hrB, by decide⟩ | exact ⟨h342.1, by decide⟩ | exact ⟨h378.1, by decide⟩ | exact ⟨h280.1, by decide⟩))) | exact finB _ a342 _ _ _ _ _ (by rw [hb342]; rfl) hb378 (fun w hw => by have g1 := hrT w hw; have g2 := hsrR w; have g3 := hup w; clear finA finB t tl tp ts hsrR hup hsp hside hrT hpsp hI hinj hB hn; refine ⟨?_, ?_, ?_, ?_⟩ <;> grind (splits := 40) (gen := 40) (ematch := 40) [updF_eq, va_rf]) (by repeat (first | exact FrP.refl | refine FrP.upd ?_ (by first | exact ⟨hp, by decide⟩ | exact ⟨hs, by decide⟩ | exact ⟨hlB, by decide⟩ | exact ⟨hrB, by decide⟩ | exact ⟨h342.1, by decide⟩ | exact ⟨h378.1, by decide⟩ | exact ⟨h280.1, by decide⟩))) | exact finB _ p _ _ _ _ _ (by rw [hb342]; rfl) hb378 (fun w hw => by have g1 := hrT w hw; have g2 := hsrR w; have g3 := hup w; clear finA finB t tl tp ts hsrR hup hsp hside hrT hpsp hI hinj hB hn; refine ⟨?_, ?_, ?_, ?_⟩ <;> grind (splits := 40) (gen := 40) (ematch := 40) [updF_eq, va_rf]) (by repeat (first | exact FrP.refl | refine FrP.upd ?_ (by first | exact ⟨hp, by decide⟩ | exact ⟨hs, by decide⟩ | exact ⟨hlB, by decide⟩ | exact ⟨hrB, by decide⟩ | exact ⟨h342.1, by decide⟩ | exact ⟨h378.1, by decide⟩ | exact ⟨h280.1, by decide⟩)))
      · rw [hb378]
        refine wa_aloadV (pc := 381) (y := mJ26_removeTreeNode) dJ26_removeTreeNode_381 rfl (by first | exact rf_s _ | exact rf_n | exact rf_q _) ?_
        refine wa_astoreV (pc := 383) (y := mJ26_removeTreeNode) dJ26_removeTreeNode_383 (Nat.le_of_ble_eq_true rfl) (by first | rfl | (simp [okst, rf_cat] <;> assumption)) (by first | exact rf_s _ | exact rf_n | exact rf_q _) ?_
        simp only [List.set_cons_zero, List.set_cons_succ]
        refine wa_goto (pc := 385) (y := mJ26_removeTreeNode) 415 dJ26_removeTreeNode_385 rfl ?_
        refine wa_aloadV (pc := 415) (y := mJ26_removeTreeNode) dJ26_removeTreeNode_415 rfl (by first | exact rf_s _ | exact rf_n | exact rf_q _) ?_
        refine wa_ifnullV (pc := 417) 427 dJ26_removeTreeNode_417 rfl (by first | exact rf_s _ | exact rf_n | exact rf_q _) (fun hb417 => ?_) (fun a417 hb417 => ?_)
        · refine wa_aloadV (pc := 427) (y := mJ26_removeTreeNode) dJ26_removeTreeNode_427 rfl (by first | exact rf_s _ | exact rf_n | exact rf_q _) ?_
          refine wa_astoreV (pc := 429) (y := mJ26_removeTreeNode) dJ26_removeTreeNode_429 (Nat.le_of_ble_eq_true rfl) (by first | rfl | (simp [okst, rf_cat] <;> assumption)) (by first | exact rf_s _ | exact rf_n | exact rf_q _) ?_
          simp only [List.set_cons_zero, List.set_cons_succ]
          refine wa_goto (pc := 431) (y := mJ26_removeTreeNode) 462 dJ26_removeTreeNode_431 rfl ?_
          first | (cases hb417; done) | exact finA _ a342 _ _ _ _ _ (by rw [hb342]; rfl) hb378 (fun w hw => by have g1 := hrT w hw; have g2 := hsrR w; have g3 := hup w; clear finA finB t tl tp ts hsrR hup hsp hside hrT hpsp hI hinj hB hn; refine ⟨?_, ?_, ?_, ?_⟩ <;> grind (splits := 40) (gen := 40) (ematch := 40) [updF_eq, va_rf]) (by repeat (first | exact FrP.refl | refine FrP.upd ?_ (by first | exact ⟨hp, by decide⟩ | exact ⟨hs, by decide⟩ | exact ⟨hlB, by decide⟩ | exact ⟨hrB, by decide⟩ | exact ⟨h342.1, by decide⟩ | exact ⟨h378.1, by decide⟩ | exact ⟨h280.1, by decide⟩))) | exact finA _ p _ _ _ _ _ (by rw [hb342]; rfl) hb378 (fun w hw => by have g1 := hrT w hw; have g2 := hsrR w; have g3 := hup w; clear finA finB t tl tp ts hsrR hup hsp hside hrT hpsp hI hinj hB hn; refine ⟨?_, ?_, ?_, ?_⟩ <;> grind (splits := 40) (gen := 40) (ematch := 40) [updF_eq, va_rf]) (by repeat (first | exact FrP.refl | refine FrP.upd ?_ (by first | exact ⟨hp, by decide⟩ | exact ⟨hs, by decide⟩ | exact ⟨hlB, by decide⟩ | exact ⟨hrB, by decide⟩ | exact ⟨h342.1, by decide⟩ | exact ⟨h378.1, by decide⟩ | exact ⟨h280.1, by decide⟩))) | exact finB _ a342 _ _ _ _ _ (by rw [hb342]; rfl) hb378 (fun w hw => by have g1 := hrT w hw; have g2 := hsrR w; have g3 := hup w; clear finA finB t tl tp ts hsrR hup hsp hside hrT hpsp hI hinj hB hn; refine ⟨?_, ?_, ?_, ?_⟩ <;> grind (splits := 40) (gen := 40) (ematch := 40) [updF_eq, va_rf]) (by repeat (first | exact FrP.refl | refine FrP.upd ?_ (by first | exact ⟨hp, by decide⟩ | exact ⟨hs, by decide⟩ | exact ⟨hlB, by decide⟩ | exact ⟨hrB, by decide⟩ | exact ⟨h342.1, by decide⟩ | exact ⟨h378.1, by decide⟩ | exact ⟨h280.1, by decide⟩))) | exact finB _ p _ _ _ _ _ (by rw [hb342]; rfl) hb378 (fun w hw => by have g1 := hrT w hw; have g2 := hsrR w; have g3 := hup w; clear finA finB t tl tp ts hsrR hup hsp hside hrT hpsp hI hinj hB hn; refine ⟨?_, ?_, ?_, ?_⟩ <;> grind (splits := 40) (gen := 40) (ematch := 40) [updF_eq, va_rf]) (by repeat (first | exact FrP.refl | refine FrP.upd ?_ (by first | exact ⟨hp, by decide⟩ | exact ⟨hs, by decide⟩ | exact ⟨hlB, by decide⟩ | exact ⟨hrB, by decide⟩ | exact ⟨h342.1, by decide⟩ | exact ⟨h378.1, by decide⟩ | exact ⟨h280.1, by decide⟩)))
        · refine wa_aloadV (pc := 420) (y := mJ26_removeTreeNode) dJ26_removeTreeNode_420 rfl (by first | exact rf_s _ | exact rf_n | exact rf_q _) ?_
          refine wa_astoreV (pc := 422) (y := mJ26_removeTreeNode) dJ26_removeTreeNode_422 (Nat.le_of_ble_eq_true rfl) (by first | rfl | (simp [okst, rf_cat] <;> assumption)) (by first | exact rf_s _ | exact rf_n | exact rf_q _) ?_
          simp only [List.set_cons_zero, List.set_cons_succ]
          refine wa_goto (pc := 424) (y := mJ26_removeTreeNode) 431 dJ26_removeTreeNode_424 rfl ?_
          refine wa_goto (pc := 431) (y := mJ26_removeTreeNode) 462 dJ26_removeTreeNode_431 rfl ?_
          first | (cases hb417; done) | exact finA _ a342 _ _ _ _ _ (by rw [hb342]; rfl) hb378 (fun w hw => by have g1 := hrT w hw; have g2 := hsrR w; have g3 := hup w; clear finA finB t tl tp ts hsrR hup hsp hside hrT hpsp hI hinj hB hn; refine ⟨?_, ?_, ?_, ?_⟩ <;> grind (splits := 40) (gen := 40) (ematch := 40) [updF_eq, va_rf]) (by repeat (first | exact FrP.refl | refine FrP.upd ?_ (by first | exact ⟨hp, by decide⟩ | exact ⟨hs, by decide⟩ | exact ⟨hlB, by decide⟩ | exact ⟨hrB, by decide⟩ | exact ⟨h342.1, by decide⟩ | exact ⟨h378.1, by decide⟩ | exact ⟨h280.1, by decide⟩))) | exact finA _ p _ _ _ _ _ (by rw [hb342]; rfl) hb378 (fun w hw => by have g1 := hrT w hw; have g2 := hsrR w; have g3 := hup w; clear finA finB t tl tp ts hsrR hup hsp hside hrT hpsp hI hinj hB hn; refine ⟨?_, ?_, ?_, ?_⟩ <;> grind (splits := 40) (gen := 40) (ematch := 40) [updF_eq, va_rf]) (by repeat (first | exact FrP.refl | refine FrP.upd ?_ (by first | exact ⟨hp, by decide⟩ | exact ⟨hs, by decide⟩ | exact ⟨hlB, by decide⟩ | exact ⟨hrB, by decide⟩ | exact ⟨h342.1, by decide⟩ | exact ⟨h378.1, by decide⟩ | exact ⟨h280.1, by decide⟩))) | exact finB _ a342 _ _ _ _ _ (by rw [hb342]; rfl) hb378 (fun w hw => by have g1 := hrT w hw; have g2 := hsrR w; have g3 := hup w; clear finA finB t tl tp ts hsrR hup hsp hside hrT hpsp hI hinj hB hn; refine ⟨?_, ?_, ?_, ?_⟩ <;> grind (splits := 40) (gen := 40) (ematch := 40) [updF_eq, va_rf]) (by repeat (first | exact FrP.refl | refine FrP.upd ?_ (by first | exact ⟨hp, by decide⟩ | exact ⟨hs, by decide⟩ | exact ⟨hlB, by decide⟩ | exact ⟨hrB, by decide⟩ | exact ⟨h342.1, by decide⟩ | exact ⟨h378.1, by decide⟩ | exact ⟨h280.1, by decide⟩))) | exact finB _ p _ _ _ _ _ (by rw [hb342]; rfl) hb378 (fun w hw => by have g1 := hrT w hw; have g2 := hsrR w; have g3 := hup w; clear finA finB t tl tp ts hsrR hup hsp hside hrT hpsp hI hinj hB hn; refine ⟨?_, ?_, ?_, ?_⟩ <;> grind (splits := 40) (gen := 40) (ematch := 40) [updF_eq, va_rf]) (by repeat (first | exact FrP.refl | refine FrP.upd ?_ (by first | exact ⟨hp, by decide⟩ | exact ⟨hs, by decide⟩ | exact ⟨hlB, by decide⟩ | exact ⟨hrB, by decide⟩ | exact ⟨h342.1, by decide⟩ | exact ⟨h378.1, by decide⟩ | exact ⟨h280.1, by decide⟩)))
    · have h342 := hsrR _ hb342
      have hI342 := hI _ h342.1
      have hT342 := hrT _ h342.1 hb342
      rw [hb342]
      refine wa_aloadV (pc := 345) (y := mJ26_removeTreeNode) dJ26_removeTreeNode_345 rfl (by first | exact rf_s _ | exact rf_n | exact rf_q _) ?_
      refine wa_aloadV (pc := 347) (y := mJ26_removeTreeNode) dJ26_removeTreeNode_347 rfl (by first | exact rf_s _ | exact rf_n | exact rf_q _) ?_
      refine wf_put (k := 14) (l := 11) 6 (.object "java/util/HashMap$TreeNode") dJ26_removeTreeNode_349 (by assumption) rfl q1614 (Or.inl rfl) (Nat.le_of_ble_eq_true rfl) rfl (by decide +kernel) (by first | rfl | exact rf_nar _ | exact rf_nar2 _) (by first | rfl | exact rf_fit _ | exact rf_fit2 _) ?_
      refine wa_aloadV (pc := 352) (y := mJ26_removeTreeNode) dJ26_removeTreeNode_352 rfl (by first | exact rf_s _ | exact rf_n | exact rf_q _) ?_
      refine wa_aloadV (pc := 354) (y := mJ26_removeTreeNode) dJ26_removeTreeNode_354 rfl (by first | exact rf_s _ | exact rf_n | exact rf_q _) ?_
      refine wa_dup_x1 (pc := 356) (y := mJ26_removeTreeNode) dJ26_removeTreeNode_356 (by first | rfl | exact rf_cat _) (by first | rfl | exact rf_cat _) ?_
      refine wf_put (k := 14) (l := 11) 7 (.object "java/util/HashMap$TreeNode") dJ26_removeTreeNode_357 (by assumption) rfl q1615 (Or.inl rfl) (Nat.le_of_ble_eq_true rfl) rfl (by decide +kernel) (by first | rfl | exact rf_nar _ | exact rf_nar2 _) (by first | rfl | exact rf_fit _ | exact rf_fit2 _) ?_
      refine wa_ifnull (pc := 360) (y := mJ26_removeTreeNode) dJ26_removeTreeNode_360 ?_
      refine wa_aloadV (pc := 363) (y := mJ26_removeTreeNode) dJ26_removeTreeNode_363 rfl (by first | exact rf_s _ | exact rf_n | exact rf_q _) ?_
      refine wa_aloadV (pc := 365) (y := mJ26_removeTreeNode) dJ26_removeTreeNode_365 rfl (by first | exact rf_s _ | exact rf_n | exact rf_q _) ?_
      refine wf_put (k := 14) (l := 11) 6 (.object "java/util/HashMap$TreeNode") dJ26_removeTreeNode_367 (by assumption) rfl q1614 (Or.inl rfl) (Nat.le_of_ble_eq_true rfl) rfl (by decide +kernel) (by first | rfl | exact rf_nar _ | exact rf_nar2 _) (by first | rfl | exact rf_fit _ | exact rf_fit2 _) ?_
      refine wa_aloadV (pc := 370) (y := mJ26_removeTreeNode) dJ26_removeTreeNode_370 rfl (by first | exact rf_s _ | exact rf_n | exact rf_q _) ?_
      refine wa_aloadV (pc := 372) (y := mJ26_removeTreeNode) dJ26_removeTreeNode_372 rfl (by first | exact rf_s _ | exact rf_n | exact rf_q _) ?_
      refine wa_dup_x1 (pc := 374) (y := mJ26_removeTreeNode) dJ26_removeTreeNode_374 (by first | rfl | exact rf_cat _) (by first | rfl | exact rf_cat _) ?_
      refine wf_put (k := 14) (l := 11) 6 (.object "java/util/HashMap$TreeNode") dJ26_removeTreeNode_375 (by assumption) rfl q1614 (Or.inl rfl) (Nat.le_of_ble_eq_true rfl) rfl (by decide +kernel) (by first | rfl | exact rf_nar _ | exact rf_nar2 _) (by first | rfl | exact rf_fit _ | exact rf_fit2 _) ?_
      refine wa_ifnonnullV (pc := 378) 388 dJ26_removeTreeNode_378 rfl (by first | exact rf_s _ | exact rf_n | exact rf_q _) (fun a378 hb378 => ?_) (fun hb378 => ?_)
      · have h378 := hup _ hb378
        have hI378 := hI _ h378.1
        obtain ⟨x1, x2, x3, x4, x5⟩ := tl _ h378.1
        try have hne9 : a378 ≠ a280 := hpsp _ _ hb378 hb280 hnpr
        rw [hb378]
        refine wa_aloadV (pc := 388) (y := mJ26_removeTreeNode) dJ26_removeTreeNode_388 rfl (by first | exact rf_s _ | exact rf_n | exact rf_q _) ?_
        refine wa_aloadV (pc := 390) (y := mJ26_removeTreeNode) dJ26_removeTreeNode_390 rfl (by first | exact rf_s _ | exact rf_n | exact rf_q _) ?_
        refine wf_get (k := 14) (l := 11) 7 dJ26_removeTreeNode_392 (by assumption) rfl q1615 (Or.inl rfl) (Nat.le_of_ble_eq_true rfl) (Nat.le_of_ble_eq_true rfl) (by (repeat (first | exact updF_self _ _ _ _ | (apply updF_i; · decide) | (apply updF_a; · first | assumption | (apply Ne.symm; assumption) | omega) | (apply newF_a; · first | assumption | (apply Ne.symm; assumption) | omega) | exact newL_self (by rfl) | exact newF_self (by rfl) | (apply cpyF_a; · first | assumption | (apply Ne.symm; assumption) | omega))) <;> first | assumption | rfl) ?_
        refine wa_acneV (pc := 395) 408 dJ26_removeTreeNode_395 rfl (by first | exact rf_s _ | exact rf_n | exact rf_q _) (by first | exact rf_s _ | exact rf_n | exact rf_q _) (fun hb395 => ?_) (fun hb395 => ?_)
        · refine wa_aloadV (pc := 408) (y := mJ26_removeTreeNode) dJ26_removeTreeNode_408 rfl (by first | exact rf_s _ | exact rf_n | exact rf_q _) ?_
          refine wa_aloadV (pc := 410) (y := mJ26_removeTreeNode) dJ26_removeTreeNode_410 rfl (by first | exact rf_s _ | exact rf_n | exact rf_q _) ?_
          refine wf_put (k := 14) (l := 11) 8 (.object "java/util/HashMap$TreeNode") dJ26_removeTreeNode_412 (by assumption) rfl q1616 (Or.inl rfl) (Nat.le_of_ble_eq_true rfl) rfl (by decide +kernel) (by first | rfl | exact rf_nar _ | exact rf_nar2 _) (by first | rfl | exact rf_fit _ | exact rf_fit2 _) ?_
          refine wa_aloadV (pc := 415) (y := mJ26_removeTreeNode) dJ26_removeTreeNode_415 rfl (by first | exact rf_s _ | exact rf_n | exact rf_q _) ?_
          refine wa_ifnullV (pc := 417) 427 dJ26_removeTreeNode_417 rfl (by first | exact rf_s _ | exact rf_n | exact rf_q _) (fun hb417 => ?_) (fun a417 hb417 => ?_)
          · refine wa_aloadV (pc := 427) (y := mJ26_removeTreeNode) dJ26_removeTreeNode_427 rfl (by first | exact rf_s _ | exact rf_n | exact rf_q _) ?_
            refine wa_astoreV (pc := 429) (y := mJ26_removeTreeNode) dJ26_removeTreeNode_429 (Nat.le_of_ble_eq_true rfl) (by first | rfl | (simp [okst, rf_cat] <;> assumption)) (by first | exact rf_s _ | exact rf_n | exact rf_q _) ?_
            simp only [List.set_cons_zero, List.set_cons_succ]
            refine wa_goto (pc := 431) (y := mJ26_removeTreeNode) 462 dJ26_removeTreeNode_431 rfl ?_
            first | (cases hb417; done) | exact finA _ a342 _ _ _ _ _ (by rw [hb342]; rfl) hb378 (fun w hw => by have g1 := hrT w hw; have g2 := hsrR w; have g3 := hup w; clear finA finB t tl tp ts hsrR hup hsp hside hrT hpsp hI hinj hB hn; refine ⟨?_, ?_, ?_, ?_⟩ <;> grind (splits := 40) (gen := 40) (ematch := 40) [updF_eq, va_rf]) (by repeat (first | exact FrP.refl | refine FrP.upd ?_ (by first | exact ⟨hp, by decide⟩ | exact ⟨hs, by decide⟩ | exact ⟨hlB, by decide⟩ | exact ⟨hrB, by decide⟩ | exact ⟨h342.1, by decide⟩ | exact ⟨h378.1, by decide⟩ | exact ⟨h280.1, by decide⟩))) | exact finA _ p _ _ _ _ _ (by rw [hb342]; rfl) hb378 (fun w hw => by have g1 := hrT w hw; have g2 := hsrR w; have g3 := hup w; clear finA finB t tl tp ts hsrR hup hsp hside hrT hpsp hI hinj hB hn; refine ⟨?_, ?_, ?_, ?_⟩ <;> grind (splits := 40) (gen := 40) (ematch := 40) [updF_eq, va_rf]) (by repeat (first | exact FrP.refl | refine FrP.upd ?_ (by first | exact ⟨hp, by decide⟩ | exact ⟨hs, by decide⟩ | exact ⟨hlB, by decide⟩ | exact ⟨hrB, by decide⟩ | exact ⟨h342.1, by decide⟩ | exact ⟨h378.1, by decide⟩ | exact ⟨h280.1, by decide⟩))) | exact finB _ a342 _ _ _ _ _ (by rw [hb342]; rfl) hb378 (fun w hw => by have g1 := hrT w hw; have g2 := hsrR w; have g3 := hup w; clear finA finB t tl tp ts hsrR hup hsp hside hrT hpsp hI hinj hB hn; refine ⟨?_, ?_, ?_, ?_⟩ <;> grind (splits := 40) (gen := 40) (ematch := 40) [updF_eq, va_rf]) (by repeat (first | exact FrP.refl | refine FrP.upd ?_ (by first | exact ⟨hp, by decide⟩ | exact ⟨hs, by decide⟩ | exact ⟨hlB, by decide⟩ | exact ⟨hrB, by decide⟩ | exact ⟨h342.1, by decide⟩ | exact ⟨h378.1, by decide⟩ | exact ⟨h280.1, by decide⟩))) | exact finB _ p _ _ _ _ _ (by rw [hb342]; rfl) hb378 (fun w hw => by have g1 := hrT w hw; have g2 := hsrR w; have g3 := hup w; clear finA finB t tl tp ts hsrR hup hsp hside hrT hpsp hI hinj hB hn; refine ⟨?_, ?_, ?_, ?_⟩ <;> grind (splits := 40) (gen := 40) (ematch := 40) [updF_eq, va_rf]) (by repeat (first | exact FrP.refl | refine FrP.upd ?_ (by first | exact ⟨hp, by decide⟩ | exact ⟨hs, by decide⟩ | exact ⟨hlB, by decide⟩ | exact ⟨hrB, by decide⟩ | exact ⟨h342.1, by decide⟩ | exact ⟨h378.1, by decide⟩ | exact ⟨h280.1, by decide⟩)))
          · refine wa_aloadV (pc := 420) (y := mJ26_removeTreeNode) dJ26_removeTreeNode_420 rfl (by first | exact rf_s _ | exact rf_n | exact rf_q _) ?_
            refine wa_astoreV (pc := 422) (y := mJ26_removeTreeNode) dJ26_removeTreeNode_422 (Nat.le_of_ble_eq_true rfl) (by first | rfl | (simp [okst, rf_cat] <;> assumption)) (by first | exact rf_s _ | exact rf_n | exact rf_q _) ?_
            simp only [List.set_cons_zero, List.set_cons_succ]
            refine wa_goto (pc := 424) (y := mJ26_removeTreeNode) 431 dJ26_removeTreeNode_424 rfl ?_
            refine wa_goto (pc := 431) (y := mJ26_removeTreeNode) 462 dJ26_removeTreeNode_431 rfl ?_
            first | (cases hb417; done) | exact finA _ a342 _ _ _ _ _ (by rw [hb342]; rfl) hb378 (fun w hw => by have g1 := hrT w hw; have g2 := hsrR w; have g3 := hup w; clear finA finB t tl tp ts hsrR hup hsp hside hrT hpsp hI hinj hB hn; refine ⟨?_, ?_, ?_, ?_⟩ <;> grind (splits := 40) (gen := 40) (ematch := 40) [updF_eq, va_rf]) (by repeat (first | exact FrP.refl | refine FrP.upd ?_ (by first | exact ⟨hp, by decide⟩ | exact ⟨hs, by decide⟩ | exact ⟨hlB, by decide⟩ | exact ⟨hrB, by decide⟩ | exact ⟨h342.1, by decide⟩ | exact ⟨h378.1, by decide⟩ | exact ⟨h280.1, by decide⟩))) | exact finA _ p _ _ _ _ _ (by rw [hb342]; rfl) hb378 (fun w hw => by have g1 := hrT w hw; have g2 := hsrR w; have g3 := hup w; clear finA finB t tl tp ts hsrR hup hsp hside hrT hpsp hI hinj hB hn; refine ⟨?_, ?_, ?_, ?_⟩ <;> grind (splits := 40) (gen := 40) (ematch := 40) [updF_eq, va_rf]) (by repeat (first | exact FrP.refl | refine FrP.upd ?_ (by first | exact ⟨hp, by decide⟩ | exact ⟨hs, by decide⟩ | exact ⟨hlB, by decide⟩ | exact ⟨hrB, by decide⟩ | exact ⟨h342.1, by decide⟩ | exact ⟨h378.1, by decide⟩ | exact ⟨h280.1, by decide⟩))) | exact finB _ a342 _ _ _ _ _ (by rw [hb342]; rfl) hb378 (fun w hw => by have g1 := hrT w hw; have g2 := hsrR w; have g3 := hup w; clear finA finB t tl tp ts hsrR hup hsp hside hrT hpsp hI hinj hB hn; refine ⟨?_, ?_, ?_, ?_⟩ <;> grind (splits := 40) (gen := 40) (ematch := 40) [updF_eq, va_rf]) (by repeat (first | exact FrP.refl | refine FrP.upd ?_ (by first | exact ⟨hp, by decide⟩ | exact ⟨hs, by decide⟩ | exact ⟨hlB, by decide⟩ | exact ⟨hrB, by decide⟩ | exact ⟨h342.1, by decide⟩ | exact ⟨h378.1, by decide⟩ | exact ⟨h280.1, by decide⟩))) | exact finB _ p _ _ _ _ _ (by rw [hb342]; rfl) hb378 (fun w hw => by have g1 := hrT w hw; have g2 := hsrR w; have g3 := hup w; clear finA finB t tl tp ts hsrR hup hsp hside hrT hpsp hI hinj hB hn; refine ⟨?_, ?_, ?_, ?_⟩ <;> grind (splits := 40) (gen := 40) (ematch := 40) [updF_eq, va_rf]) (by repeat (first | exact FrP.refl | refine FrP.upd ?_ (by first | exact ⟨hp, by decide⟩ | exact ⟨hs, by decide⟩ | exact ⟨hlB, by decide⟩ | exact ⟨hrB, by decide⟩ | exact ⟨h342.1, by decide⟩ | exact ⟨h378.1, by decide⟩ | exact ⟨h280.1, by decide⟩)))
        · refine wa_aloadV (pc := 398) (y := mJ26_removeTreeNode) dJ26_removeTreeNode_398 rfl (by first | exact rf_s _ | exact rf_n | exact rf_q _) ?_
          refine wa_aloadV (pc := 400) (y := mJ26_removeTreeNode) dJ26_removeTreeNode_400 rfl (by first | exact rf_s _ | exact rf_n | exact rf_q _) ?_
          refine wf_put (k := 14) (l := 11) 7 (.object "java/util/HashMap$TreeNode") dJ26_removeTreeNode_402 (by assumption) rfl q1615 (Or.inl rfl) (Nat.le_of_ble_eq_true rfl) rfl (by decide +kernel) (by first | rfl | exact rf_nar _ | exact rf_nar2 _) (by first | rfl | exact rf_fit _ | exact rf_fit2 _) ?_
          refine wa_goto (pc := 405) (y := mJ26_removeTreeNode) 415 dJ26_removeTreeNode_405 rfl ?_
          refine wa_aloadV (pc := 415) (y := mJ26_removeTreeNode) dJ26_removeTreeNode_415 rfl (by first | exact rf_s _ | exact rf_n | exact rf_q _) ?_
          refine wa_ifnullV (pc := 417) 427 dJ26_removeTreeNode_417 rfl (by first | exact rf_s _ | exact rf_n | exact rf_q _) (fun hb417 => ?_) (fun a417 hb417 => ?_)
          · refine wa_aloadV (pc := 427) (y := mJ26_removeTreeNode) dJ26_removeTreeNode_427 rfl (by first | exact rf_s _ | exact rf_n | exact rf_q _) ?_
            refine wa_astoreV (pc := 429) (y := mJ26_removeTreeNode) dJ26_removeTreeNode_429 (Nat.le_of_ble_eq_true rfl) (by first | rfl | (simp [okst, rf_cat] <;> assumption)) (by first | exact rf_s _ | exact rf_n | exact rf_q _) ?_
            simp only [List.set_cons_zero, List.set_cons_succ]
            refine wa_goto (pc := 431) (y := mJ26_removeTreeNode) 462 dJ26_removeTreeNode_431 rfl ?_
            first | (cases hb417; done) | exact finA _ a342 _ _ _ _ _ (by rw [hb342]; rfl) hb378 (fun w hw => by have g1 := hrT w hw; have g2 := hsrR w; have g3 := hup w; clear finA finB t tl tp ts hsrR hup hsp hside hrT hpsp hI hinj hB hn; refine ⟨?_, ?_, ?_, ?_⟩ <;> grind (splits := 40) (gen := 40) (ematch := 40) [updF_eq, va_rf]) (by repeat (first | exact FrP.refl | refine FrP.upd ?_ (by first | exact ⟨hp, by decide⟩ | exact ⟨hs, by decide⟩ | exact ⟨hlB, by decide⟩ | exact ⟨hrB, by decide⟩ | exact ⟨h342.1, by decide⟩ | exact ⟨h378.1, by decide⟩ | exact ⟨h280.1, by decide⟩))) | exact finA _ p _ _ _ _ _ (by rw [hb342]; rfl) hb378 (fun w hw => by have g1 := hrT w hw; have g2 := hsrR w; have g3 := hup w; clear finA finB t tl tp ts hsrR hup hsp hside hrT hpsp hI hinj hB hn; refine ⟨?_, ?_, ?_, ?_⟩ <;> grind (splits := 40) (gen := 40) (ematch := 40) [updF_eq, va_rf]) (by repeat (first | exact FrP.refl | refine FrP.upd ?_ (by first | exact ⟨hp, by decide⟩ | exact ⟨hs, by decide⟩ | exact ⟨hlB, by decide⟩ | exact ⟨hrB, by decide⟩ | exact ⟨h342.1, by decide⟩ | exact ⟨h378.1, by decide⟩ | exact ⟨h280.1, by decide⟩))) | exact finB _ a342 _ _ _ _ _ (by rw [hb342]; rfl) hb378 (fun w hw => by have g1 := hrT w hw; have g2 := hsrR w; have g3 := hup w; clear finA finB t tl tp ts hsrR hup hsp hside hrT hpsp hI hinj hB hn; refine ⟨?_, ?_, ?_, ?_⟩ <;> grind (splits := 40) (gen := 40) (ematch := 40) [updF_eq, va_rf]) (by repeat (first | exact FrP.refl | refine FrP.upd ?_ (by first | exact ⟨hp, by decide⟩ | exact ⟨hs, by decide⟩ | exact ⟨hlB, by decide⟩ | exact ⟨hrB, by decide⟩ | exact ⟨h342.1, by decide⟩ | exact ⟨h378.1, by decide⟩ | exact ⟨h280.1, by decide⟩))) | exact finB _ p _ _ _ _ _ (by rw [hb342]; rfl) hb378 (fun w hw => by have g1 := hrT w hw; have g2 := hsrR w; have g3 := hup w; clear finA finB t tl tp ts hsrR hup hsp hside hrT hpsp hI hinj hB hn; refine ⟨?_, ?_, ?_, ?_⟩ <;> grind (splits := 40) (gen := 40) (ematch := 40) [updF_eq, va_rf]) (by repeat (first | exact FrP.refl | refine FrP.upd ?_ (by first | exact ⟨hp, by decide⟩ | exact ⟨hs, by decide⟩ | exact ⟨hlB, by decide⟩ | exact ⟨hrB, by decide⟩ | exact ⟨h342.1, by decide⟩ | exact ⟨h378.1, by decide⟩ | exact ⟨h280.1, by decide⟩)))
          · refine wa_aloadV (pc := 420) (y := mJ26_removeTreeNode) dJ26_removeTreeNode_420 rfl (by first | exact rf_s _ | exact rf_n | exact rf_q _) ?_
            refine wa_astoreV (pc := 422) (y := mJ26_removeTreeNode) dJ26_removeTreeNode_422 (Nat.le_of_ble_eq_true rfl) (by first | rfl | (simp [okst, rf_cat] <;> assumption)) (by first | exact rf_s _ | exact rf_n | exact rf_q _) ?_
            simp only [List.set_cons_zero, List.set_cons_succ]
            refine wa_goto (pc := 424) (y := mJ26_removeTreeNode) 431 dJ26_removeTreeNode_424 rfl ?_
            refine wa_goto (pc := 431) (y := mJ26_removeTreeNode) 462 dJ26_removeTreeNode_431 rfl ?_
            first | (cases hb417; done) | exact finA _ a342 _ _ _ _ _ (by rw [hb342]; rfl) hb378 (fun w hw => by have g1 := hrT w hw; have g2 := hsrR w; have g3 := hup w; clear finA finB t tl tp ts hsrR hup hsp hside hrT hpsp hI hinj hB hn; refine ⟨?_, ?_, ?_, ?_⟩ <;> grind (splits := 40) (gen := 40) (ematch := 40) [updF_eq, va_rf]) (by repeat (first | exact FrP.refl | refine FrP.upd ?_ (by first | exact ⟨hp, by decide⟩ | exact ⟨hs, by decide⟩ | exact ⟨hlB, by decide⟩ | exact ⟨hrB, by decide⟩ | exact ⟨h342.1, by decide⟩ | exact ⟨h378.1, by decide⟩ | exact ⟨h280.1, by decide⟩))) | exact finA _ p _ _ _ _ _ (by rw [hb342]; rfl) hb378 (fun w hw => by have g1 := hrT w hw; have g2 := hsrR w; have g3 := hup w; clear finA finB t tl tp ts hsrR hup hsp hside hrT hpsp hI hinj hB hn; refine ⟨?_, ?_, ?_, ?_⟩ <;> grind (splits := 40) (gen := 40) (ematch := 40) [updF_eq, va_rf]) (by repeat (first | exact FrP.refl | refine FrP.upd ?_ (by first | exact ⟨hp, by decide⟩ | exact ⟨hs, by decide⟩ | exact ⟨hlB, by decide⟩ | exact ⟨hrB, by decide⟩ | exact ⟨h342.1, by decide⟩ | exact ⟨h378.1, by decide⟩ | exact ⟨h280.1, by decide⟩))) | exact finB _ a342 _ _ _ _ _ (by rw [hb342]; rfl) hb378 (fun w hw => by have g1 := hrT w hw; have g2 := hsrR w; have g3 := hup w; clear finA finB t tl tp ts hsrR hup hsp hside hrT hpsp hI hinj hB hn; refine ⟨?_, ?_, ?_, ?_⟩ <;> grind (splits := 40) (gen := 40) (ematch := 40) [updF_eq, va_rf]) (by repeat (first | exact FrP.refl | refine FrP.upd ?_ (by first | exact ⟨hp, by decide⟩ | exact ⟨hs, by decide⟩ | exact ⟨hlB, by decide⟩ | exact ⟨hrB, by decide⟩ | exact ⟨h342.1, by decide⟩ | exact ⟨h378.1, by decide⟩ | exact ⟨h280.1, by decide⟩))) | exact finB _ p _ _ _ _ _ (by rw [hb342]; rfl) hb378 (fun w hw => by have g1 := hrT w hw; have g2 := hsrR w; have g3 := hup w; clear finA finB t tl tp ts hsrR hup hsp hside hrT hpsp hI hinj hB hn; refine ⟨?_, ?_, ?_, ?_⟩ <;> grind (splits := 40) (gen := 40) (ematch := 40) [updF_eq, va_rf]) (by repeat (first | exact FrP.refl | refine FrP.upd ?_ (by first | exact ⟨hp, by decide⟩ | exact ⟨hs, by decide⟩ | exact ⟨hlB, by decide⟩ | exact ⟨hrB, by decide⟩ | exact ⟨h342.1, by decide⟩ | exact ⟨h378.1, by decide⟩ | exact ⟨h280.1, by decide⟩)))
      · rw [hb378]
        refine wa_aloadV (pc := 381) (y := mJ26_removeTreeNode) dJ26_removeTreeNode_381 rfl (by first | exact rf_s _ | exact rf_n | exact rf_q _) ?_
        refine wa_astoreV (pc := 383) (y := mJ26_removeTreeNode) dJ26_removeTreeNode_383 (Nat.le_of_ble_eq_true rfl) (by first | rfl | (simp [okst, rf_cat] <;> assumption)) (by first | exact rf_s _ | exact rf_n | exact rf_q _) ?_
        simp only [List.set_cons_zero, List.set_cons_succ]
        refine wa_goto (pc := 385) (y := mJ26_removeTreeNode) 415 dJ26_removeTreeNode_385 rfl ?_
        refine wa_aloadV (pc := 415) (y := mJ26_removeTreeNode) dJ26_removeTreeNode_415 rfl (by first | exact rf_s _ | exact rf_n | exact rf_q _) ?_
        refine wa_ifnullV (pc := 417) 427 dJ26_removeTreeNode_417 rfl (by first | exact rf_s _ | exact rf_n | exact rf_q _) (fun hb417 => ?_) (fun a417 hb417 => ?_)
        · refine wa_aloadV (pc := 427) (y := mJ26_removeTreeNode) dJ26_removeTreeNode_427 rfl (by first | exact rf_s _ | exact rf_n | exact rf_q _) ?_
          refine wa_astoreV (pc := 429) (y := mJ26_removeTreeNode) dJ26_removeTreeNode_429 (Nat.le_of_ble_eq_true rfl) (by first | rfl | (simp [okst, rf_cat] <;> assumption)) (by first | exact rf_s _ | exact rf_n | exact rf_q _) ?_
          simp only [List.set_cons_zero, List.set_cons_succ]
          refine wa_goto (pc := 431) (y := mJ26_removeTreeNode) 462 dJ26_removeTreeNode_431 rfl ?_
          first | (cases hb417; done) | exact finA _ a342 _ _ _ _ _ (by rw [hb342]; rfl) hb378 (fun w hw => by have g1 := hrT w hw; have g2 := hsrR w; have g3 := hup w; clear finA finB t tl tp ts hsrR hup hsp hside hrT hpsp hI hinj hB hn; refine ⟨?_, ?_, ?_, ?_⟩ <;> grind (splits := 40) (gen := 40) (ematch := 40) [updF_eq, va_rf]) (by repeat (first | exact FrP.refl | refine FrP.upd ?_ (by first | exact ⟨hp, by decide⟩ | exact ⟨hs, by decide⟩ | exact ⟨hlB, by decide⟩ | exact ⟨hrB, by decide⟩ | exact ⟨h342.1, by decide⟩ | exact ⟨h378.1, by decide⟩ | exact ⟨h280.1, by decide⟩))) | exact finA _ p _ _ _ _ _ (by rw [hb342]; rfl) hb378 (fun w hw => by have g1 := hrT w hw; have g2 := hsrR w; have g3 := hup w; clear finA finB t tl tp ts hsrR hup hsp hside hrT hpsp hI hinj hB hn; refine ⟨?_, ?_, ?_, ?_⟩ <;> grind (splits := 40) (gen := 40) (ematch := 40) [updF_eq, va_rf]) (by repeat (first | exact FrP.refl | refine FrP.upd ?_ (by first | exact ⟨hp, by decide⟩ | exact ⟨hs, by decide⟩ | exact ⟨hlB, by decide⟩ | exact ⟨hrB, by decide⟩ | exact ⟨h342.1, by decide⟩ | exact ⟨h378.1, by decide⟩ | exact ⟨h280.1, by decide⟩))) | exact finB _ a342 _ _ _ _ _ (by rw [hb342]; rfl) hb378 (fun w hw => by have g1 := hrT w hw; have g2 := hsrR w; have g3 := hup w; clear finA finB t tl tp ts hsrR hup hsp hside hrT hpsp hI hinj hB hn; refine ⟨?_, ?_, ?_, ?_⟩ <;> grind (splits := 40) (gen := 40) (ematch := 40) [updF_eq, va_rf]) (by repeat (first | exact FrP.refl | refine FrP.upd ?_ (by first | exact ⟨hp, by decide⟩ | exact ⟨hs, by decide⟩ | exact ⟨hlB, by decide⟩ | exact ⟨hrB, by decide⟩ | exact ⟨h342.1, by decide⟩ | exact ⟨h378.1, by decide⟩ | exact ⟨h280.1, by decide⟩))) | exact finB _ p _ _ _ _ _ (by rw [hb342]; rfl) hb378 (fun w hw => by have g1 := hrT w hw; have g2 := hsrR w; have g3 := hup w; clear finA finB t tl tp ts hsrR hup hsp hside hrT hpsp hI hinj hB hn; refine ⟨?_, ?_, ?_, ?_⟩ <;> grind (splits := 40) (gen := 40) (ematch := 40) [updF_eq, va_rf]) (by repeat (first | exact FrP.refl | refine FrP.upd ?_ (by first | exact ⟨hp, by decide⟩ | exact ⟨hs, by decide⟩ | exact ⟨hlB, by decide⟩ | exact ⟨hrB, by decide⟩ | exact ⟨h342.1, by decide⟩ | exact ⟨h378.1, by decide⟩ | exact ⟨h280.1, by decide⟩)))
        · refine wa_aloadV (pc := 420) (y := mJ26_removeTreeNode) dJ26_removeTreeNode_420 rfl (by first | exact rf_s _ | exact rf_n | exact rf_q _) ?_
          refine wa_astoreV (pc := 422) (y := mJ26_removeTreeNode) dJ26_removeTreeNode_422 (Nat.le_of_ble_eq_true rfl) (by first | rfl | (simp [okst, rf_cat] <;> assumption)) (by first | exact rf_s _ | exact rf_n | exact rf_q _) ?_
          simp only [List.set_cons_zero, List.set_cons_succ]
          refine wa_goto (pc := 424) (y := mJ26_removeTreeNode) 431 dJ26_removeTreeNode_424 rfl ?_
          refine wa_goto (pc := 431) (y := mJ26_removeTreeNode) 462 dJ26_removeTreeNode_431 rfl ?_
          first | (cases hb417; done) | exact finA _ a342 _ _ _ _ _ (by rw [hb342]; rfl) hb378 (fun w hw => by have g1 := hrT w hw; have g2 := hsrR w; have g3 := hup w; clear finA finB t tl tp ts hsrR hup hsp hside hrT hpsp hI hinj hB hn; refine ⟨?_, ?_, ?_, ?_⟩ <;> grind (splits := 40) (gen := 40) (ematch := 40) [updF_eq, va_rf]) (by repeat (first | exact FrP.refl | refine FrP.upd ?_ (by first | exact ⟨hp, by decide⟩ | exact ⟨hs, by decide⟩ | exact ⟨hlB, by decide⟩ | exact ⟨hrB, by decide⟩ | exact ⟨h342.1, by decide⟩ | exact ⟨h378.1, by decide⟩ | exact ⟨h280.1, by decide⟩))) | exact finA _ p _ _ _ _ _ (by rw [hb342]; rfl) hb378 (fun w hw => by have g1 := hrT w hw; have g2 := hsrR w; have g3 := hup w; clear finA finB t tl tp ts hsrR hup hsp hside hrT hpsp hI hinj hB hn; refine ⟨?_, ?_, ?_, ?_⟩ <;> grind (splits := 40) (gen := 40) (ematch := 40) [updF_eq, va_rf]) (by repeat (first | exact FrP.refl | refine FrP.upd ?_ (by first | exact ⟨hp, by decide⟩ | exact ⟨hs, by decide⟩ | exact ⟨hlB, by decide⟩ | exact ⟨hrB, by decide⟩ | exact ⟨h342.1, by decide⟩ | exact ⟨h378.1, by decide⟩ | exact ⟨h280.1, by decide⟩))) | exact finB _ a342 _ _ _ _ _ (by rw [hb342]; rfl) hb378 (fun w hw => by have g1 := hrT w hw; have g2 := hsrR w; have g3 := hup w; clear finA finB t tl tp ts hsrR hup hsp hside hrT hpsp hI hinj hB hn; refine ⟨?_, ?_, ?_, ?_⟩ <;> grind (splits := 40) (gen := 40) (ematch := 40) [updF_eq, va_rf]) (by repeat (first | exact FrP.refl | refine FrP.upd ?_ (by first | exact ⟨hp, by decide⟩ | exact ⟨hs, by decide⟩ | exact ⟨hlB, by decide⟩ | exact ⟨hrB, by decide⟩ | exact ⟨h342.1, by decide⟩ | exact ⟨h378.1, by decide⟩ | exact ⟨h280.1, by decide⟩))) | exact finB _ p _ _ _ _ _ (by rw [hb342]; rfl) hb378 (fun w hw => by have g1 := hrT w hw; have g2 := hsrR w; have g3 := hup w; clear finA finB t tl tp ts hsrR hup hsp hside hrT hpsp hI hinj hB hn; refine ⟨?_, ?_, ?_, ?_⟩ <;> grind (splits := 40) (gen := 40) (ematch := 40) [updF_eq, va_rf]) (by repeat (first | exact FrP.refl | refine FrP.upd ?_ (by first | exact ⟨hp, by decide⟩ | exact ⟨hs, by decide⟩ | exact ⟨hlB, by decide⟩ | exact ⟨hrB, by decide⟩ | exact ⟨h342.1, by decide⟩ | exact ⟨h378.1, by decide⟩ | exact ⟨h280.1, by decide⟩)))
theorem rt_156 (hd : 3 ≤ d) (c6 : v6.category = 1) (c10 : v10.category = 1) (hB : B = a ++ p :: b) (hn : B.Nodup) (hne : ∃ z, z ∈ B ∧ z ≠ p) (hinj : ∀ a b, a ∈ B → b ∈ B → κ a = κ b → a = b)
    (t : T0 (· ∈ B) κ root L R P lo hi rk 1200 M) (tl : TL h F (· ∈ B) L R P C) {Q : RR → AH → Prop}
    (KQ : ∀ (F6 : Nat → Nat → Value) (r0 : Nat) (v4 v5 v6 v7 v8 v9 v10 v11 v12 v13 v14 v16 v17 v18 v19 v20 : Value), TrB h F6 (· ∈ a ++ b) κ r0 1200 → FrP (fun z j => z ∈ B ∧ (j = 6 ∨ j = 7 ∨ j = 8 ∨ j = 10)) F F6 → WA G d mJ26_removeTreeNode 626 [.ref p, .ref m, .ref tb, .int (bI mv), v4, v5, v6, v7, v8, v9, v10, v11, v12, v13, v14, .ref r0, v16, v17, v18, v19, v20] [] (sF h F6) Q)
    (c14 : v14.category = 1) (c15 : v15.category = 1) (c18 : v18.category = 1) (c13 : v13.category = 1) :
    WA G d mJ26_removeTreeNode 156 [.ref p, .ref m, .ref tb, .int (bI mv), v4, v5, v6, .ref root, v8, v9, v10, v11, v12, v13, v14, v15, v16, v17, v18, v19, v20] [] (sF h F) Q := by
  have hp : p ∈ B := by rw [hB]; simp
  obtain ⟨p1, p2, p3, p4, p5⟩ := tl p hp
  have tp := t.2 p hp
  have hinj2 : ∀ a b, a ∈ B → b ∈ B → 2 * κ a = 2 * κ b → a = b := fun a b ha hb e => hinj a b ha hb (by omega)
  have leaf : ∀ (v12 v13 v15 : Value), L p = none → R p = none → WA G d mJ26_removeTreeNode 462 [.ref p, .ref m, .ref tb, .int (bI mv), v4, v5, v6, .ref root, v8, v9, v10, .ref p, v12, v13, .ref p, v15, v16, v17, v18, v19, v20] [] (sF h F) Q := by
    intro v12 v13 v15 hl hr
    refine wa_aloadV (pc := 462) (y := mJ26_removeTreeNode) dJ26_removeTreeNode_462 rfl (by first | exact rf_s _ | exact rf_n | exact rf_q _) ?_
    refine wa_aloadV (pc := 464) (y := mJ26_removeTreeNode) dJ26_removeTreeNode_464 rfl (by first | exact rf_s _ | exact rf_n | exact rf_q _) ?_
    refine wa_aceqV (pc := 466) 544 dJ26_removeTreeNode_466 rfl (by first | exact rf_s _ | exact rf_n | exact rf_q _) (by first | exact rf_s _ | exact rf_n | exact rf_q _) (fun hb466 => ?_) (fun hb466 => absurd rfl hb466)
    exact rt_544B hd hB hn hne (fun _ _ _ => rfl) hinj2 t.dbl tl hl hr (fun F6 r0 v14 v16 g1 g2 => KQ F6 r0 _ _ _ _ _ _ _ _ _ _ v14 v16 _ _ _ _ g1 g2)
  have loop : ∀ (pl pr : Nat) (v14 : Value), v14.category = 1 → L p = some pl → R p = some pr → ∀ (n s : Nat) (v16 : Value), s ∈ B → M - rk s < n → lo s = κ p + 1 →
      WA G d mJ26_removeTreeNode 185 [.ref p, .ref m, .ref tb, .int (bI mv), v4, v5, v6, .ref root, v8, v9, v10, .ref p, .ref pl, .ref pr, v14, .ref s, v16, v17, v18, v19, v20] [] (sF h F) Q := by
    intro pl pr v14 c14 hl hr n
    induction n with
    | zero => exact fun s v16 hs hn => absurd hn (Nat.not_lt_zero _)
    | succ n ih =>
      intro s v16 hs hn9 hlo
      obtain ⟨s1, s2, s3, s4, s5⟩ := tl s hs
      have ts := t.2 s hs
      refine wa_aloadV (pc := 185) (y := mJ26_removeTreeNode) dJ26_removeTreeNode_185 rfl (by first | exact rf_s _ | exact rf_n | exact rf_q _) ?_
      refine wf_get (k := 14) (l := 11) 7 dJ26_removeTreeNode_187 (by assumption) rfl q1615 (Or.inl rfl) (Nat.le_of_ble_eq_true rfl) (Nat.le_of_ble_eq_true rfl) (by (repeat (first | exact updF_self _ _ _ _ | (apply updF_i; · decide) | (apply updF_a; · first | assumption | (apply Ne.symm; assumption) | omega) | (apply newF_a; · first | assumption | (apply Ne.symm; assumption) | omega) | exact newL_self (by rfl) | exact newF_self (by rfl) | (apply cpyF_a; · first | assumption | (apply Ne.symm; assumption) | omega))) <;> first | assumption | rfl) ?_
      refine wa_dup (pc := 190) (y := mJ26_removeTreeNode) dJ26_removeTreeNode_190 (by first | rfl | exact rf_cat _) ?_
      refine wa_astoreV (pc := 191) (y := mJ26_removeTreeNode) dJ26_removeTreeNode_191 (Nat.le_of_ble_eq_true rfl) (by first | rfl | (simp [okst, rf_cat] <;> assumption)) (by first | exact rf_s _ | exact rf_n | exact rf_q _) ?_
      simp only [List.set_cons_zero, List.set_cons_succ]
      refine wa_ifnullV (pc := 193) 203 dJ26_removeTreeNode_193 rfl (by first | exact rf_s _ | exact rf_n | exact rf_q _) (fun hb193 => ?_) (fun a193 hb193 => ?_)
      · rw [hb193]
        exact rt_203 hd c6 hB hn hinj t tl hl hr hs hb193 hlo KQ rfl c18
      · have hc := ts.2.2.1 _ hb193
        have tc := t.2 _ hc.1
        rw [hb193]
        refine wa_aloadV (pc := 196) (y := mJ26_removeTreeNode) dJ26_removeTreeNode_196 rfl (by first | exact rf_s _ | exact rf_n | exact rf_q _) ?_
        refine wa_astoreV (pc := 198) (y := mJ26_removeTreeNode) dJ26_removeTreeNode_198 (Nat.le_of_ble_eq_true rfl) (by first | rfl | (simp [okst, rf_cat] <;> assumption)) (by first | exact rf_s _ | exact rf_n | exact rf_q _) ?_
        simp only [List.set_cons_zero, List.set_cons_succ]
        refine wa_goto (pc := 200) (y := mJ26_removeTreeNode) 185 dJ26_removeTreeNode_200 rfl ?_
        exact ih _ _ hc.1 (by omega) (by omega)
  refine wa_aloadV_n (pc := 156) (y := mJ26_removeTreeNode) dJ26_removeTreeNode_156 rfl (by first | exact rf_s _ | exact rf_n | exact rf_q _) ?_
  refine wa_astoreV (pc := 157) (y := mJ26_removeTreeNode) dJ26_removeTreeNode_157 (Nat.le_of_ble_eq_true rfl) (by first | rfl | (simp [okst, rf_cat] <;> assumption)) (by first | exact rf_s _ | exact rf_n | exact rf_q _) ?_
  simp only [List.set_cons_zero, List.set_cons_succ]
  refine wa_aloadV_n (pc := 159) (y := mJ26_removeTreeNode) dJ26_removeTreeNode_159 rfl (by first | exact rf_s _ | exact rf_n | exact rf_q _) ?_
  refine wf_get (k := 14) (l := 11) 7 dJ26_removeTreeNode_160 (by assumption) rfl q1615 (Or.inl rfl) (Nat.le_of_ble_eq_true rfl) (Nat.le_of_ble_eq_true rfl) (by (repeat (first | exact updF_self _ _ _ _ | (apply updF_i; · decide) | (apply updF_a; · first | assumption | (apply Ne.symm; assumption) | omega) | (apply newF_a; · first | assumption | (apply Ne.symm; assumption) | omega) | exact newL_self (by rfl) | exact newF_self (by rfl) | (apply cpyF_a; · first | assumption | (apply Ne.symm; assumption) | omega))) <;> first | assumption | rfl) ?_
  refine wa_astoreV (pc := 163) (y := mJ26_removeTreeNode) dJ26_removeTreeNode_163 (Nat.le_of_ble_eq_true rfl) (by first | rfl | (simp [okst, rf_cat] <;> assumption)) (by first | exact rf_s _ | exact rf_n | exact rf_q _) ?_
  simp only [List.set_cons_zero, List.set_cons_succ]
  refine wa_aloadV_n (pc := 165) (y := mJ26_removeTreeNode) dJ26_removeTreeNode_165 rfl (by first | exact rf_s _ | exact rf_n | exact rf_q _) ?_
  refine wf_get (k := 14) (l := 11) 8 dJ26_removeTreeNode_166 (by assumption) rfl q1616 (Or.inl rfl) (Nat.le_of_ble_eq_true rfl) (Nat.le_of_ble_eq_true rfl) (by (repeat (first | exact updF_self _ _ _ _ | (apply updF_i; · decide) | (apply updF_a; · first | assumption | (apply Ne.symm; assumption) | omega) | (apply newF_a; · first | assumption | (apply Ne.symm; assumption) | omega) | exact newL_self (by rfl) | exact newF_self (by rfl) | (apply cpyF_a; · first | assumption | (apply Ne.symm; assumption) | omega))) <;> first | assumption | rfl) ?_
  refine wa_astoreV (pc := 169) (y := mJ26_removeTreeNode) dJ26_removeTreeNode_169 (Nat.le_of_ble_eq_true rfl) (by first | rfl | (simp [okst, rf_cat] <;> assumption)) (by first | exact rf_s _ | exact rf_n | exact rf_q _) ?_
  simp only [List.set_cons_zero, List.set_cons_succ]
  refine wa_aloadV (pc := 171) (y := mJ26_removeTreeNode) dJ26_removeTreeNode_171 rfl (by first | exact rf_s _ | exact rf_n | exact rf_q _) ?_
  refine wa_ifnullV (pc := 173) 434 dJ26_removeTreeNode_173 rfl (by first | exact rf_s _ | exact rf_n | exact rf_q _) (fun hb173 => ?_) (fun a173 hb173 => ?_)
  · rw [hb173]
    refine wa_aloadV (pc := 434) (y := mJ26_removeTreeNode) dJ26_removeTreeNode_434 rfl (by first | exact rf_s _ | exact rf_n | exact rf_q _) ?_
    refine wa_ifnullV (pc := 436) 446 dJ26_removeTreeNode_436 rfl (by first | exact rf_s _ | exact rf_n | exact rf_q _) (fun hb436 => ?_) (fun a436 hb436 => ?_)
    · refine wa_aloadV (pc := 446) (y := mJ26_removeTreeNode) dJ26_removeTreeNode_446 rfl (by first | exact rf_s _ | exact rf_n | exact rf_q _) ?_
      refine wa_ifnullV (pc := 448) 458 dJ26_removeTreeNode_448 rfl (by first | exact rf_s _ | exact rf_n | exact rf_q _) (fun hb448 => ?_) (fun a448 hb448 => ?_)
      · refine wa_aloadV (pc := 458) (y := mJ26_removeTreeNode) dJ26_removeTreeNode_458 rfl (by first | exact rf_s _ | exact rf_n | exact rf_q _) ?_
        refine wa_astoreV (pc := 460) (y := mJ26_removeTreeNode) dJ26_removeTreeNode_460 (Nat.le_of_ble_eq_true rfl) (by first | rfl | (simp [okst, rf_cat] <;> assumption)) (by first | exact rf_s _ | exact rf_n | exact rf_q _) ?_
        simp only [List.set_cons_zero, List.set_cons_succ]
        first | (cases hb436; done) | (rw [hb448] at *; exact leaf _ _ _ hb173 hb448) | exact leaf _ _ _ hb173 hb448 | exact rt_462R hd c6 hB hn (fun _ _ _ => rfl) hinj2 t.dbl tl hb173 hb448 (fun F6 r0 v7 v14 v16 v15 g1 g2 => KQ F6 r0 _ _ _ v7 _ _ _ _ _ _ v14 v16 _ _ _ _ g1 g2) | exact rt_462L hd c6 hB hn (fun _ _ _ => rfl) hinj2 t.dbl tl hb173 hb178 (fun F6 r0 v7 v14 v16 v15 g1 g2 => KQ F6 r0 _ _ _ v7 _ _ _ _ _ _ v14 v16 _ _ _ _ g1 g2)
      · rw [hb448]
        refine wa_aloadV (pc := 451) (y := mJ26_removeTreeNode) dJ26_removeTreeNode_451 rfl (by first | exact rf_s _ | exact rf_n | exact rf_q _) ?_
        refine wa_astoreV (pc := 453) (y := mJ26_removeTreeNode) dJ26_removeTreeNode_453 (Nat.le_of_ble_eq_true rfl) (by first | rfl | (simp [okst, rf_cat] <;> assumption)) (by first | exact rf_s _ | exact rf_n | exact rf_q _) ?_
        simp only [List.set_cons_zero, List.set_cons_succ]
        refine wa_goto (pc := 455) (y := mJ26_removeTreeNode) 462 dJ26_removeTreeNode_455 rfl ?_
        first | (cases hb436; done) | (rw [hb448] at *; exact leaf _ _ _ hb173 hb448) | exact leaf _ _ _ hb173 hb448 | exact rt_462R hd c6 hB hn (fun _ _ _ => rfl) hinj2 t.dbl tl hb173 hb448 (fun F6 r0 v7 v14 v16 v15 g1 g2 => KQ F6 r0 _ _ _ v7 _ _ _ _ _ _ v14 v16 _ _ _ _ g1 g2) | exact rt_462L hd c6 hB hn (fun _ _ _ => rfl) hinj2 t.dbl tl hb173 hb178 (fun F6 r0 v7 v14 v16 v15 g1 g2 => KQ F6 r0 _ _ _ v7 _ _ _ _ _ _ v14 v16 _ _ _ _ g1 g2)
    · refine wa_aloadV (pc := 439) (y := mJ26_removeTreeNode) dJ26_removeTreeNode_439 rfl (by first | exact rf_s _ | exact rf_n | exact rf_q _) ?_
      refine wa_astoreV (pc := 441) (y := mJ26_removeTreeNode) dJ26_removeTreeNode_441 (Nat.le_of_ble_eq_true rfl) (by first | rfl | (simp [okst, rf_cat] <;> assumption)) (by first | exact rf_s _ | exact rf_n | exact rf_q _) ?_
      simp only [List.set_cons_zero, List.set_cons_succ]
      refine wa_goto (pc := 443) (y := mJ26_removeTreeNode) 462 dJ26_removeTreeNode_443 rfl ?_
      first | (cases hb436; done) | (rw [hb448] at *; exact leaf _ _ _ hb173 hb448) | exact leaf _ _ _ hb173 hb448 | exact rt_462R hd c6 hB hn (fun _ _ _ => rfl) hinj2 t.dbl tl hb173 hb448 (fun F6 r0 v7 v14 v16 v15 g1 g2 => KQ F6 r0 _ _ _ v7 _ _ _ _ _ _ v14 v16 _ _ _ _ g1 g2) | exact rt_462L hd c6 hB hn (fun _ _ _ => rfl) hinj2 t.dbl tl hb173 hb178 (fun F6 r0 v7 v14 v16 v15 g1 g2 => KQ F6 r0 _ _ _ v7 _ _ _ _ _ _ v14 v16 _ _ _ _ g1 g2)
  · rw [hb173]
    refine wa_aloadV (pc := 176) (y := mJ26_removeTreeNode) dJ26_removeTreeNode_176 rfl (by first | exact rf_s _ | exact rf_n | exact rf_q _) ?_
    refine wa_ifnullV (pc := 178) 434 dJ26_removeTreeNode_178 rfl (by first | exact rf_s _ | exact rf_n | exact rf_q _) (fun hb178 => ?_) (fun a178 hb178 => ?_)
    · rw [hb178]
      refine wa_aloadV (pc := 434) (y := mJ26_removeTreeNode) dJ26_removeTreeNode_434 rfl (by first | exact rf_s _ | exact rf_n | exact rf_q _) ?_
      refine wa_ifnullV (pc := 436) 446 dJ26_removeTreeNode_436 rfl (by first | exact rf_s _ | exact rf_n | exact rf_q _) (fun hb436 => ?_) (fun a436 hb436 => ?_)
      · refine wa_aloadV (pc := 446) (y := mJ26_removeTreeNode) dJ26_removeTreeNode_446 rfl (by first | exact rf_s _ | exact rf_n | exact rf_q _) ?_
        refine wa_ifnullV (pc := 448) 458 dJ26_removeTreeNode_448 rfl (by first | exact rf_s _ | exact rf_n | exact rf_q _) (fun hb448 => ?_) (fun a448 hb448 => ?_)
        · refine wa_aloadV (pc := 458) (y := mJ26_removeTreeNode) dJ26_removeTreeNode_458 rfl (by first | exact rf_s _ | exact rf_n | exact rf_q _) ?_
          refine wa_astoreV (pc := 460) (y := mJ26_removeTreeNode) dJ26_removeTreeNode_460 (Nat.le_of_ble_eq_true rfl) (by first | rfl | (simp [okst, rf_cat] <;> assumption)) (by first | exact rf_s _ | exact rf_n | exact rf_q _) ?_
          simp only [List.set_cons_zero, List.set_cons_succ]
          first | (cases hb436; done) | (rw [hb448] at *; exact leaf _ _ _ hb173 hb448) | exact leaf _ _ _ hb173 hb448 | exact rt_462R hd c6 hB hn (fun _ _ _ => rfl) hinj2 t.dbl tl hb173 hb448 (fun F6 r0 v7 v14 v16 v15 g1 g2 => KQ F6 r0 _ _ _ v7 _ _ _ _ _ _ v14 v16 _ _ _ _ g1 g2) | exact rt_462L hd c6 hB hn (fun _ _ _ => rfl) hinj2 t.dbl tl hb173 hb178 (fun F6 r0 v7 v14 v16 v15 g1 g2 => KQ F6 r0 _ _ _ v7 _ _ _ _ _ _ v14 v16 _ _ _ _ g1 g2)
        · rw [hb448]
          refine wa_aloadV (pc := 451) (y := mJ26_removeTreeNode) dJ26_removeTreeNode_451 rfl (by first | exact rf_s _ | exact rf_n | exact rf_q _) ?_
          refine wa_astoreV (pc := 453) (y := mJ26_removeTreeNode) dJ26_removeTreeNode_453 (Nat.le_of_ble_eq_true rfl) (by first | rfl | (simp [okst, rf_cat] <;> assumption)) (by first | exact rf_s _ | exact rf_n | exact rf_q _) ?_
          simp only [List.set_cons_zero, List.set_cons_succ]
          refine wa_goto (pc := 455) (y := mJ26_removeTreeNode) 462 dJ26_removeTreeNode_455 rfl ?_
          first | (cases hb436; done) | (rw [hb448] at *; exact leaf _ _ _ hb173 hb448) | exact leaf _ _ _ hb173 hb448 | exact rt_462R hd c6 hB hn (fun _ _ _ => rfl) hinj2 t.dbl tl hb173 hb448 (fun F6 r0 v7 v14 v16 v15 g1 g2 => KQ F6 r0 _ _ _ v7 _ _ _ _ _ _ v14 v16 _ _ _ _ g1 g2) | exact rt_462L hd c6 hB hn (fun _ _ _ => rfl) hinj2 t.dbl tl hb173 hb178 (fun F6 r0 v7 v14 v16 v15 g1 g2 => KQ F6 r0 _ _ _ v7 _ _ _ _ _ _ v14 v16 _ _ _ _ g1 g2)
      · refine wa_aloadV (pc := 439) (y := mJ26_removeTreeNode) dJ26_removeTreeNode_439 rfl (by first | exact rf_s _ | exact rf_n | exact rf_q _) ?_
        refine wa_astoreV (pc := 441) (y := mJ26_removeTreeNode) dJ26_removeTreeNode_441 (Nat.le_of_ble_eq_true rfl) (by first | rfl | (simp [okst, rf_cat] <;> assumption)) (by first | exact rf_s _ | exact rf_n | exact rf_q _) ?_
        simp only [List.set_cons_zero, List.set_cons_succ]
        refine wa_goto (pc := 443) (y := mJ26_removeTreeNode) 462 dJ26_removeTreeNode_443 rfl ?_
        first | (cases hb436; done) | (rw [hb448] at *; exact leaf _ _ _ hb173 hb448) | exact leaf _ _ _ hb173 hb448 | exact rt_462R hd c6 hB hn (fun _ _ _ => rfl) hinj2 t.dbl tl hb173 hb448 (fun F6 r0 v7 v14 v16 v15 g1 g2 => KQ F6 r0 _ _ _ v7 _ _ _ _ _ _ v14 v16 _ _ _ _ g1 g2) | exact rt_462L hd c6 hB hn (fun _ _ _ => rfl) hinj2 t.dbl tl hb173 hb178 (fun F6 r0 v7 v14 v16 v15 g1 g2 => KQ F6 r0 _ _ _ v7 _ _ _ _ _ _ v14 v16 _ _ _ _ g1 g2)
    · rw [hb178]
      refine wa_aloadV (pc := 181) (y := mJ26_removeTreeNode) dJ26_removeTreeNode_181 rfl (by first | exact rf_s _ | exact rf_n | exact rf_q _) ?_
      refine wa_astoreV (pc := 183) (y := mJ26_removeTreeNode) dJ26_removeTreeNode_183 (Nat.le_of_ble_eq_true rfl) (by first | rfl | (simp [okst, rf_cat] <;> assumption)) (by first | exact rf_s _ | exact rf_n | exact rf_q _) ?_
      simp only [List.set_cons_zero, List.set_cons_succ]
      (have hc := tp.2.2.2.1 _ hb178; exact loop _ _ _ c14 hb173 hb178 _ _ _ hc.1 (Nat.lt_succ_self _) hc.2.2.1)
end REMOVE2
