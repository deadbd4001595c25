/-! ===== copies and the past ===== -/
def OwB (own : Nat → Option Nat) (h : AH) : Prop := ∀ b, h.1 ≤ b → own b = none
/-- how the owners go on -/
def OwT (own own2 : Nat → Option Nat) (h h2 : AH) : Prop := OwB own2 h2 ∧ (∀ b, b < h.1 → own2 b = own b) ∧ ∀ b, h.1 ≤ b → b < h2.1 → own2 b ≠ none
def CpaQ (G : GG) (h : AH) (F : Nat → Nat → Value) (own : Nat → Option Nat) (s : Nat) (f : Nat → Int32) (r : RR) (h' : AH) : Prop :=
  ∃ (h2 : AH) (F2 : Nat → Nat → Value) (s2 : Nat) (own2 : Nat → Option Nat), r = .inl (some (.ref s2)) ∧ h' = sF h2 F2 ∧ Fr (OP (fun b => own b = some s) h) h F h2 F2 ∧ Cst 8000 h h2 ∧ OwT own own2 h h2 ∧ ShowAt G h2 F2 own2 s f ∧ ShowAt G h2 F2 own2 s2 f ∧ h.1 ≤ s2
def KeepQ (G : GG) (h : AH) (F : Nat → Nat → Value) (own : Nat → Option Nat) (x p kl karr : Nat) (hs : List Nat) (s : Nat) (f : Nat → Int32) (r : RR) (h' : AH) : Prop :=
  ∃ (h2 : AH) (F2 : Nat → Nat → Value) (own2 : Nat → Option Nat) (s2 karr2 kcap2 : Nat), r = .inl none ∧ h' = sF h2 F2 ∧ Fr (fun b => OP (fun b => own b = some s) h b ∨ LF h kl karr b) h F h2 F2 ∧ Cst 8060 h h2 ∧ OwT own own2 h h2 ∧
    PastR G h2 F2 own2 x p kl karr2 kcap2 ((if hs.length = 6 then hs.drop 1 else hs) ++ [s2]) ∧ ShowAt G h2 F2 own2 s f ∧ ShowAt G h2 F2 own2 s2 f ∧ h.1 ≤ s2
section PAST
variable {G : GG} {d n : Nat} {h h1 h2 h3 h4 : AH} {F F1 F2 F3 F4 : Nat → Nat → Value} {own own2 own3 : Nat → Option Nat} {s s1 s2 x p kl karr kcap k c w : Nat} {hs : List Nat} {f f2 g : Nat → Int32} {O P : Nat → Prop} {A : SA}
theorem OwT.trans (a : OwT own own2 h h2) (b : OwT own2 own3 h2 h3) (hle : h.1 ≤ h2.1) : OwT own own3 h h3 := ⟨b.1, fun c hc => (b.2.1 c (by omega)).trans (a.2.1 c hc), fun c h1 h3 => by
  by_cases e : c < h2.1
  · rw [b.2.1 c e]; exact a.2.2 c h1 e
  · exact b.2.2 c (by omega) h3⟩
theorem ShowAt.owT (S : ShowAt G h F own s f) (t : OwT own own2 h h2) : ShowAt G h F own2 s f := S.ow fun b hb e => (t.2.1 b hb).trans e
/-- fresh cells go to x -/
theorem OwT.ext (hB : OwB own h) (hle : h.1 ≤ h2.1) (y : Nat) : OwT own (fun b => if b < h.1 then own b else if b < h2.1 then some y else none) h h2 := ⟨fun b hb => (if_neg (by omega)).trans (if_neg (by omega)), fun b hb => if_pos hb, fun b h1 h3 e => by have e2 := ((if_neg (by omega)).trans (if_pos h3)).symm.trans e; cases e2⟩
theorem s_X2_copyA (hd : 15 ≤ d) (hG : StG G) (hE : Is h (emA G) 43 0) (hB : OwB own h) (S : ShowAt G h F own s f) : MA G d mX2_copy [.ref s] (sF h F) (CpaQ G h F own s f) := by
  classical
  obtain ⟨g1, A, g2, S2⟩ := S
  have hO : ∀ b, own b = some s → b < h.1 := fun b hb => by
    by_cases e : b < h.1
    · exact e
    · rw [hB b (by omega)] at hb; cases hb
  refine WA.mono (s_X2_copy hd hG hE hO S2) ?_
  rintro r h' - - ⟨h2, F2, s2, A2, V, rfl, rfl, fr, cst, hV, S3, D3⟩
  have hle := fr.1.1
  refine ⟨h2, F2, s2, fun b => if b < h.1 then own b else if b < h2.1 then (if V b then some s else some s2) else none, rfl, rfl, fr, cst, ⟨fun b hb => (if_neg (by omega)).trans (if_neg (by omega)), fun b hb => if_pos hb, fun b h1 h3 => ?_⟩, ⟨g1, A, g2, S3.mono fun b hb hOb => ?_⟩, ⟨g1, A2, g2, D3.mono fun b hb hOb => ?_⟩, (D3.own s2 (Or.inl rfl)).1⟩
  · intro e
    have e2 := ((if_neg (by omega)).trans (if_pos h3)).symm.trans e
    split at e2 <;> cases e2
  · show (if _ then _ else _) = _
    by_cases e : b < h.1
    · rw [if_pos e]
      exact hOb.resolve_right (fun q => by have := (hV b q).1; omega)
    · rw [if_neg e, if_pos hb, if_pos (hOb.resolve_left (fun q => e (hO b q)))]
  · have h9 := hOb.1
    show (if _ then _ else _) = _
    rw [if_neg (by omega), if_pos hb, if_neg hOb.2]
theorem s_X2_copy_2 (hd : 16 ≤ d) (hG : StG G) (hE : Is h (emA G) 43 0) (hB : OwB own h) (S : ShowAt G h F own s f) : MA G d mX2_copy_2 [.ref s] (sF h F) (CpaQ G h F own s f) := by
  have i1 := S.is
  change WA G d mX2_copy_2 0 [.ref s] [] _ _
  refine wa_aloadV_n (pc := 0) (y := mX2_copy_2) dX2_copy_2_0 rfl (by first | exact rf_s _ | exact rf_n | exact rf_q _) ?_
  refine wa_callV (pc := 1) (s_X2_copyA (d := d - 1) (by omega) hG hE hB S) dX2_copy_2_1 okX2_copy q1801 q1176 q1177 (sF_at (by assumption)) rfl rfl rfl (Nat.le_of_ble_eq_true rfl) (Nat.le_of_ble_eq_true rfl) (by omega) ?_
  rintro _ _ - - ⟨h2, F2, s2, own2, rfl, rfl, q⟩
  refine aft_v (pc2 := 4) ?_ rfl
  refine wa_areturnV (pc := 4) (y := mX2_copy_2) (.object "java/lang/Object") dX2_copy_2_4 rfl (Or.inl ⟨_, rfl⟩) (by first | exact rf_s _ | exact rf_n | exact rf_q _) ⟨h2, F2, s2, own2, rfl, rfl, q⟩
/-- behind the removal of the oldest -/
theorem kp_23 {hs0 : List Nat} (hd : 17 ≤ d) (hG : StG G) (hE : Is h (emA G) 43 0) (hB : OwB own h) (R : PastR G h F1 own x p kl karr kcap hs) (S : ShowAt G h F1 own s f) (hsx : s ≠ x) (hxl : x < h.1) (fr : Fr (LF h kl karr) h F h F1) (h5 : hs.length ≤ 5) (e0 : hs = if hs0.length = 6 then hs0.drop 1 else hs0) (hlf : ∀ b, LF h kl karr b → own b = some x) :
    WA G d mX4_keep 23 [.ref p, .ref s] [] (sF h F1) (KeepQ G h F own x p kl karr hs0 s f) := by
  have i1 := S.is
  obtain ⟨r1, r2, r3, r4, r5, r6, r7, r8⟩ := id R
  have r41 := r4.1
  refine wa_aloadV_n (pc := 23) (y := mX4_keep) dX4_keep_23 rfl (by first | exact rf_s _ | exact rf_n | exact rf_q _) ?_
  refine wf_get (k := 3) (l := 2) 0 dX4_keep_24 (by assumption) rfl q396 (Or.inl rfl) (Nat.le_of_ble_eq_true rfl) (Nat.le_of_ble_eq_true rfl) (by (repeat (first | exact updF_self _ _ _ _ | (apply updF_i; · decide) | (apply updF_a; · first | assumption | (apply Ne.symm; assumption) | omega) | (apply newF_a; · first | assumption | (apply Ne.symm; assumption) | omega) | exact newL_self (by rfl) | exact newF_self (by rfl) | (apply cpyF_a; · first | assumption | (apply Ne.symm; assumption) | omega))) <;> first | assumption | rfl) ?_
  refine wa_aloadV_n (pc := 27) (y := mX4_keep) dX4_keep_27 rfl (by first | exact rf_s _ | exact rf_n | exact rf_q _) ?_
  refine wa_callF (k := 1) (pc := 28) (s_X2_copy_2 (d := d - 1) (by omega) hG hE hB S) dX4_keep_28 okX2_copy_2 rfl q1778 ⟨q1780, q1779, q1799, q1797, q1795⟩ (by decide) q1796 q1798 (sF_at (by assumption)) rfl rfl rfl rfl (Nat.le_of_ble_eq_true rfl) (Nat.le_of_ble_eq_true rfl) (by omega) ?_
  rintro _ _ - - ⟨h2, F2, s2, own2, rfl, rfl, fr2, cst2, t2, S2, D2, hs2⟩
  refine aft_v (pc2 := 33) ?_ rfl
  have R2 := R.fr fr2 (fun q => hsx (Option.some.inj (q.1.symm.trans r6))) (fun b hb q => hsx (Option.some.inj (q.1.symm.trans (hlf b hb))))
  have i2 := D2.is
  have r42 := R2.2.2.2.1.1
  refine wa_castY (pc := 33) (y := mX4_keep) (k := 1) dX4_keep_33 (sF_at (by assumption)) rfl q1802 q1795 ?_
  refine wa_callV (pc := 36) (s_J2_add (d := d - 1) (by omega) hG R2.2.2.2.1 (by omega) ⟨1, 8, i2, Or.inl rfl⟩) dX4_keep_36 okJ2_add q1803 q273 q274 (sF_at (by assumption)) rfl rfl rfl (Nat.le_of_ble_eq_true rfl) (Nat.le_of_ble_eq_true rfl) (by omega) ?_
  rintro _ _ - - ⟨rfl, h3, F3, ka3, kc3, rfl, L3, fr3, har, b1, b2⟩
  refine aft_v (pc2 := 39) ?_ rfl
  refine wa_pop (pc := 39) (y := mX4_keep) dX4_keep_39 (by first | rfl | exact rf_cat _) ?_
  have t3 := OwT.ext (h2 := h3) t2.1 fr3.1.1 x
  have hl2 : ∀ b, LF h2 kl karr b → own2 b = some x := fun b hb => by have hb1 : LF h kl karr b := LF.back r4 fr2.1 hb; rw [t2.2.1 b (hb1.elim (fun e => e ▸ r4.lt.1) (fun e => e.1 ▸ r4.lt.2))]; exact hlf b hb1
  have hkil : ∀ b, KIL h2 b → ¬ LF h2 kl karr b := fun b hk q => by rcases q with e | ⟨e, z, hz⟩ <;> (rcases hk with e2 | e2 | e2) <;> first | exact absurd e (e2.ne r42 (by decide)) | exact absurd e (e2.ne hz (by decide))
  have hnL : ∀ b, LF h2 kl karr b → own2 b ≠ some s ∧ own2 b ≠ some s2 := fun b hb => by rw [hl2 b hb]; exact ⟨fun e => hsx (Option.some.inj e).symm, fun e => by have := Option.some.inj e; omega⟩
  have S3 := (S2.fr fr3 (fun b hb q => (hnL b q).1 hb) hkil).ow (own2 := fun b => if b < h2.1 then own2 b else if b < h3.1 then some x else none) (fun b hb e => (if_pos (by by_cases e9 : b < h2.1; exact e9; rw [t2.1 b (by omega)] at e; cases e)).trans e)
  have D3 := (D2.fr fr3 (fun b hb q => (hnL b q).2 hb) hkil).ow (own2 := fun b => if b < h2.1 then own2 b else if b < h3.1 then some x else none) (fun b hb e => (if_pos (by by_cases e9 : b < h2.1; exact e9; rw [t2.1 b (by omega)] at e; cases e)).trans e)
  refine wa_return (pc := 40) (y := mX4_keep) dX4_keep_40 rfl ⟨h3, F3, _, s2, ka3, kc3, rfl, rfl, (fr.mono (fun b _ hb => Or.inr hb)).trans ((fr2.mono (P2 := fun b => OP (fun b => own b = some s) h b ∨ LF h kl karr b) (fun b _ hb => Or.inl hb)).trans fr3 (fun b hb q => Or.inr (LF.back r4 fr2.1 q))) (fun b hb q => q), ⟨by have := cst2.1; omega, by have := cst2.2; omega⟩, t2.trans t3 fr2.1.1, ?_, S3, D3, hs2⟩
  obtain ⟨q1, q2, q3, q4, q5, q6, q7, q8⟩ := R2
  have ep := fr3.at q1.lt (fun q => by rcases q with e | ⟨e, z, hz⟩; exact q1.ne q4.1 (by decide) e; exact q1.ne hz (by decide) e)
  have up : ∀ b, b < h2.1 → own2 b = some x → (if b < h2.1 then own2 b else if b < h3.1 then some x else none) = some x := fun b hb e => (if_pos hb).trans e
  refine ⟨fr3.is q1, (ep 0).trans q2, (ep 1).trans q3, by rw [← e0]; exact L3, by rw [← e0]; simp; omega, up _ q1.lt ((t2.2.1 p r1.lt).trans q6), up _ q4.lt.1 ((t2.2.1 kl r4.lt.1).trans q7), fun c hc => ?_⟩
  rcases har with rfl | har
  · rcases q4.2.2.2.2.2.2.1 with ⟨-, i⟩ | ⟨i, -⟩
    · exact up _ q4.lt.2 (hl2 _ (Or.inr ⟨rfl, _, i⟩))
    · exact up _ q4.lt.2 (hl2 _ (Or.inr ⟨rfl, _, i.ext_uniq fr3.1 hc⟩))
  · exact (if_neg (by omega)).trans (if_pos hc.lt)
theorem s_X4_keep (hd : 17 ≤ d) (hG : StG G) (hE : Is h (emA G) 43 0) (hB : OwB own h) (R : PastR G h F own x p kl karr kcap hs) (S : ShowAt G h F own s f) (hsx : s ≠ x) (hxl : x < h.1) : MA G d mX4_keep [.ref p, .ref s] (sF h F) (KeepQ G h F own x p kl karr hs s f) := by
  have i1 := S.is
  obtain ⟨r1, r2, r3, r4, r5, r6, r7, r8⟩ := id R
  have r41 := r4.1
  change WA G d mX4_keep 0 [.ref p, .ref s] [] _ _
  by_cases h6 : hs.length = 6
  · obtain ⟨w, hw⟩ : ∃ w, hs[0]? = some w := ⟨_, List.getElem?_eq_getElem (by omega)⟩
    refine wa_aloadV_n (pc := 0) (y := mX4_keep) dX4_keep_0 rfl (by first | exact rf_s _ | exact rf_n | exact rf_q _) ?_
    refine wf_get (k := 3) (l := 2) 0 dX4_keep_1 (by assumption) rfl q396 (Or.inl rfl) (Nat.le_of_ble_eq_true rfl) (Nat.le_of_ble_eq_true rfl) (by (repeat (first | exact updF_self _ _ _ _ | (apply updF_i; · decide) | (apply updF_a; · first | assumption | (apply Ne.symm; assumption) | omega) | (apply newF_a; · first | assumption | (apply Ne.symm; assumption) | omega) | exact newL_self (by rfl) | exact newF_self (by rfl) | (apply cpyF_a; · first | assumption | (apply Ne.symm; assumption) | omega))) <;> first | assumption | rfl) ?_
    refine wa_callV (pc := 4) (s_J2_size (d := d - 1) r4) dX4_keep_4 okJ2_size q1768 q1145 q1146 (sF_at (by assumption)) rfl rfl rfl (Nat.le_of_ble_eq_true rfl) (Nat.le_of_ble_eq_true rfl) (by omega) ?_
    rintro _ _ - - ⟨rfl, rfl⟩
    refine aft_v (pc2 := 7) ?_ rfl
    refine wa_aloadV_n (pc := 7) (y := mX4_keep) dX4_keep_7 rfl (by first | exact rf_s _ | exact rf_n | exact rf_q _) ?_
    refine wf_get (k := 3) (l := 2) 1 dX4_keep_8 (by assumption) rfl q397 (Or.inl rfl) (Nat.le_of_ble_eq_true rfl) (Nat.le_of_ble_eq_true rfl) (by (repeat (first | exact updF_self _ _ _ _ | (apply updF_i; · decide) | (apply updF_a; · first | assumption | (apply Ne.symm; assumption) | omega) | (apply newF_a; · first | assumption | (apply Ne.symm; assumption) | omega) | exact newL_self (by rfl) | exact newF_self (by rfl) | (apply cpyF_a; · first | assumption | (apply Ne.symm; assumption) | omega))) <;> first | assumption | rfl) ?_
    refine wa_icmp_ne (pc := 11) 23 dX4_keep_11 rfl (fun hb11 => absurd (by rw [h6]) hb11) (fun hb11 => ?_)
    refine wa_aloadV_n (pc := 14) (y := mX4_keep) dX4_keep_14 rfl (by first | exact rf_s _ | exact rf_n | exact rf_q _) ?_
    refine wf_get (k := 3) (l := 2) 0 dX4_keep_15 (by assumption) rfl q396 (Or.inl rfl) (Nat.le_of_ble_eq_true rfl) (Nat.le_of_ble_eq_true rfl) (by (repeat (first | exact updF_self _ _ _ _ | (apply updF_i; · decide) | (apply updF_a; · first | assumption | (apply Ne.symm; assumption) | omega) | (apply newF_a; · first | assumption | (apply Ne.symm; assumption) | omega) | exact newL_self (by rfl) | exact newF_self (by rfl) | (apply cpyF_a; · first | assumption | (apply Ne.symm; assumption) | omega))) <;> first | assumption | rfl) ?_
    refine wa_iconst (pc := 18) (y := mX4_keep) (Int32.ofNat 0) dX4_keep_18 rfl ?_
    refine wa_callV (pc := 19) (s_J2_remove (d := d - 1) (by omega) r4 hw) dX4_keep_19 okJ2_remove q1769 q1770 q1771 (sF_at (by assumption)) rfl rfl rfl (Nat.le_of_ble_eq_true rfl) (Nat.le_of_ble_eq_true rfl) (by omega) ?_
    rintro _ _ - - ⟨rfl, F1, rfl, L1, fr1⟩
    refine aft_v (pc2 := 22) ?_ rfl
    refine wa_pop (pc := 22) (y := mX4_keep) dX4_keep_22 (by first | rfl | exact rf_cat _) ?_
    have ep := fr1.at r1.lt (fun q => by rcases q with e | ⟨e, z, hz⟩; exact r1.ne r41 (by decide) e; exact r1.ne hz (by decide) e)
    have hdr : hs.eraseIdx 0 = hs.drop 1 := by cases hs with | nil => rfl | cons a t => rfl
    refine kp_23 (hs := hs.eraseIdx 0) hd hG hE hB ⟨r1, (ep 0).trans r2, (ep 1).trans r3, L1, by rw [hdr, List.length_drop]; omega, r6, r7, r8⟩ (S.fr fr1 (fun b hb q => hsx (Option.some.inj (hb.symm.trans (R.lf q)))) (fun b hk q => by rcases q with e | ⟨e, z, hz⟩ <;> (rcases hk with e2 | e2 | e2) <;> first | exact absurd e (e2.ne r41 (by decide)) | exact absurd e (e2.ne hz (by decide)))) hsx hxl fr1 (by rw [hdr, List.length_drop]; omega) (by rw [if_pos h6, hdr]) (fun b hb => R.lf hb)
  · refine wa_aloadV_n (pc := 0) (y := mX4_keep) dX4_keep_0 rfl (by first | exact rf_s _ | exact rf_n | exact rf_q _) ?_
    refine wf_get (k := 3) (l := 2) 0 dX4_keep_1 (by assumption) rfl q396 (Or.inl rfl) (Nat.le_of_ble_eq_true rfl) (Nat.le_of_ble_eq_true rfl) (by (repeat (first | exact updF_self _ _ _ _ | (apply updF_i; · decide) | (apply updF_a; · first | assumption | (apply Ne.symm; assumption) | omega) | (apply newF_a; · first | assumption | (apply Ne.symm; assumption) | omega) | exact newL_self (by rfl) | exact newF_self (by rfl) | (apply cpyF_a; · first | assumption | (apply Ne.symm; assumption) | omega))) <;> first | assumption | rfl) ?_
    refine wa_callV (pc := 4) (s_J2_size (d := d - 1) r4) dX4_keep_4 okJ2_size q1768 q1145 q1146 (sF_at (by assumption)) rfl rfl rfl (Nat.le_of_ble_eq_true rfl) (Nat.le_of_ble_eq_true rfl) (by omega) ?_
    rintro _ _ - - ⟨rfl, rfl⟩
    refine aft_v (pc2 := 7) ?_ rfl
    refine wa_aloadV_n (pc := 7) (y := mX4_keep) dX4_keep_7 rfl (by first | exact rf_s _ | exact rf_n | exact rf_q _) ?_
    refine wf_get (k := 3) (l := 2) 1 dX4_keep_8 (by assumption) rfl q397 (Or.inl rfl) (Nat.le_of_ble_eq_true rfl) (Nat.le_of_ble_eq_true rfl) (by (repeat (first | exact updF_self _ _ _ _ | (apply updF_i; · decide) | (apply updF_a; · first | assumption | (apply Ne.symm; assumption) | omega) | (apply newF_a; · first | assumption | (apply Ne.symm; assumption) | omega) | exact newL_self (by rfl) | exact newF_self (by rfl) | (apply cpyF_a; · first | assumption | (apply Ne.symm; assumption) | omega))) <;> first | assumption | rfl) ?_
    refine wa_icmp_ne (pc := 11) 23 dX4_keep_11 rfl (fun hb11 => ?_) (fun hb11 => absurd ((iN_eq (by omega) (by omega)).mp hb11) h6)
    exact kp_23 hd hG hE hB R S hsx hxl Fr.refl (by omega) (by rw [if_neg h6]) (fun b hb => R.lf hb)
end PAST
