/-! ===== the Show's constructor, whole ===== -/
section SHINIT2
variable {G : GG} {d n : Nat} {h h1 h2 h3 : AH} {F F1 F2 F3 : Nat → Nat → Value} {s c k i j p q a cl im hm fl fa fc n0 : Nat} {fs : List Nat} {O P : Nat → Prop}
theorem s_X2_init (hd : 9 ≤ d) (hG : StG G) (hs : Is h s 1 8) (z : ∀ j, 4 ≤ j → j < 8 → F s j = .int 0) (hE : Is h (emA G) 43 0) : MA G d mX2_init [.ref s] (sF h F) (fun r h' => r = .inl none ∧ ∃ h3 F3 cl im hm fl fa fc fs, h' = sF h3 F3 ∧ InI G h3 F3 s cl im hm fl fa fc fs h.1 ∧ fs.length = 12 ∧ Fr (· = s) h F h3 F3 ∧ Cst 644 h h3) := by
  have hlt := hs.lt
  have n1 : s ≠ h.1 := Nat.ne_of_lt hlt
  have s1 := hs.new (k2 := 11) (l2 := 3)
  have ic : Is (hNew h 11 3) h.1 11 3 := Is.self
  have s2 := s1.new (k2 := 12) (l2 := 12)
  have ic2 := ic.new (k2 := 12) (l2 := 12)
  have im2 : Is (hNew (hNew h 11 3) 12 12) (h.1 + 1) 12 12 := Is.self (h := hNew h 11 3)
  have s3 := s2.new (k2 := 32) (l2 := 12)
  have ic3 := ic2.new (k2 := 32) (l2 := 12)
  have im3 := im2.new (k2 := 32) (l2 := 12)
  have ih3 : Is (hNew (hNew (hNew h 11 3) 12 12) 32 12) (h.1 + 1 + 1) 32 12 := Is.self (h := hNew (hNew h 11 3) 12 12)
  have s4 := s3.new (k2 := 11) (l2 := 3)
  have ic4 := ic3.new (k2 := 11) (l2 := 3)
  have im4 := im3.new (k2 := 11) (l2 := 3)
  have ih4 := ih3.new (k2 := 11) (l2 := 3)
  have il4 : Is (hNew (hNew (hNew (hNew h 11 3) 12 12) 32 12) 11 3) (h.1 + 1 + 1 + 1) 11 3 := Is.self (h := hNew (hNew (hNew h 11 3) 12 12) 32 12)
  have hE1 := hE.new (k2 := 11) (l2 := 3)
  have hE4 := (((hE1.new (k2 := 12) (l2 := 12)).new (k2 := 32) (l2 := 12)).new (k2 := 11) (l2 := 3))
  change WA G d mX2_init 0 [.ref s, .retAddr 0] [] _ _
  refine wa_aloadV_n (pc := 0) (y := mX2_init) dX2_init_0 rfl (by first | exact rf_s _ | exact rf_n | exact rf_q _) ?_
  refine wa_objInit (pc := 1) (y := mX2_init) dX2_init_1 q158 q151 q152 (Nat.le_of_ble_eq_true rfl) (by omega) ?_
  refine wa_aloadV_n (pc := 4) (y := mX2_init) dX2_init_4 rfl (by first | exact rf_s _ | exact rf_n | exact rf_q _) ?_
  refine wf_new (k := 11) (l := 3) [.int 0, .null, .int 0] tyJ2 dX2_init_5 rfl q159 q160 q88 tyJ2_ok rfl rfl ?_
  refine wa_dup (pc := 8) (y := mX2_init) dX2_init_8 (by first | rfl | exact rf_cat _) ?_
  refine wa_callI (pc := 9) (s_J2_init (d := d - 1) (a := h.1) (by omega) hG ic (newF_self rfl) hE1) dX2_init_9 okJ2_init rfl rfl rfl q161 q162 rfl rfl (Nat.le_of_ble_eq_true rfl) (Nat.le_of_ble_eq_true rfl) (by omega) ?_
  rintro _ _ - - ⟨rfl, F1, rfl, L1, fr1⟩
  refine aft_0 (pc2 := 12) ?_ rfl
  refine wf_putF (k := 1) (l := 8) 0 (.object "java/util/ArrayList") dX2_init_12 (by assumption) rfl q355 (Or.inl rfl) (Nat.le_of_ble_eq_true rfl) rfl rfl rfl (by decide +kernel) (by first | rfl | exact rf_nar _ | exact rf_nar2 _) (by first | rfl | exact rf_fit _ | exact rf_fit2 _) ?_
  have frA : Fr (· = s) h F (hNew h 11 3) (updF F1 s 0 (.ref h.1)) := (((Fr.newT (Fr.refl (P := (· = s)))).trans fr1 (fun b hb e => absurd e (by omega)))).updT (Or.inl rfl)
  have LA : LstR G (hNew h 11 3) (updF F1 s 0 (.ref h.1)) h.1 (emA G) 0 [] := L1.kept (P := (· = s)) (Fr.upd rfl) (fun b hb e => by rcases hb with e2 | ⟨-, z, hz⟩; omega; exact absurd (hz.uniq hE1).1 (by decide))
  have a0 : updF F1 s 0 (.ref h.1) s 0 = .ref h.1 := updF_self _ _ _ _
  have az : ∀ j, 4 ≤ j → j < 8 → updF F1 s 0 (.ref h.1) s j = .int 0 := fun j h1 h2 => updF_i (by omega) ((congrFun (fr1.2 s (Nat.lt_succ_of_lt hlt) n1) j).trans (newF_a n1 (z j h1 h2)))
  generalize updF F1 s 0 (.ref h.1) = FA at *
  refine wa_aloadV_n (pc := 15) (y := mX2_init) dX2_init_15 rfl (by first | exact rf_s _ | exact rf_n | exact rf_q _) ?_
  refine wf_new (k := 12) (l := 12) [.null, .null, .int 0, .int 0, .int 0, .float 0, .null, .null, .null, .null, .int 0, .int 0] tyJ5 dX2_init_16 rfl q188 q189 q91 tyJ5_ok rfl rfl ?_
  refine wa_dup (pc := 19) (y := mX2_init) dX2_init_19 (by first | rfl | exact rf_cat _) ?_
  refine wa_callI (pc := 20) (s_J5_init (d := d - 1) (m := h.1 + 1) (by omega) im2) dX2_init_20 okJ5_init rfl rfl rfl q190 q191 rfl rfl (Nat.le_of_ble_eq_true rfl) (Nat.le_of_ble_eq_true rfl) (by omega) ?_
  rintro _ _ - - ⟨rfl, rfl⟩
  refine aft_0 (pc2 := 23) ?_ rfl
  generalize hFm : updF _ _ _ _ = Fm
  have nm : s ≠ h.1 + 1 := by omega
  have frm : Fr NoP (hNew h 11 3) FA (hNew (hNew h 11 3) 12 12) Fm := by rw [← hFm]; exact (((Fr.newT Fr.refl).updT (Or.inr (Nat.le_refl _))).updT (Or.inr (Nat.le_refl _))).updT (Or.inr (Nat.le_refl _))
  have hmv : ∀ j w, j ≠ 5 → j ≠ 10 → j ≠ 11 → [Value.null, .null, .int 0, .int 0, .int 0, .float 0, .null, .null, .null, .null, .int 0, .int 0][j]? = some w → Fm (h.1 + 1) j = w := fun j w h5 h10 h11 e => by rw [← hFm]; exact updF_i h10 (updF_i h11 (updF_i h5 (newL_self e)))
  obtain ⟨Mm, tm⟩ := MapR.new im2 (hmv 0 .null (by decide) (by decide) (by decide) rfl) (hmv 1 .null (by decide) (by decide) (by decide) rfl) (hmv 2 (.int 0) (by decide) (by decide) (by decide) rfl) (hmv 3 (.int 0) (by decide) (by decide) (by decide) rfl) (hmv 4 (.int 0) (by decide) (by decide) (by decide) rfl) (by rw [← hFm]; exact updF_i (by decide) (updF_i (by decide) (updF_self _ _ _ _))) (hmv 6 .null (by decide) (by decide) (by decide) rfl) (hmv 7 .null (by decide) (by decide) (by decide) rfl) (hmv 8 .null (by decide) (by decide) (by decide) rfl) (hmv 9 .null (by decide) (by decide) (by decide) rfl) (by rw [← hFm]; exact updF_self _ _ _ _) (by rw [← hFm]; exact updF_i (by decide) (updF_self _ _ _ _))
  have m0 := hmv 0 .null (by decide) (by decide) (by decide) rfl; have m1 := hmv 1 .null (by decide) (by decide) (by decide) rfl; have m6 := hmv 6 .null (by decide) (by decide) (by decide) rfl; have m7 := hmv 7 .null (by decide) (by decide) (by decide) rfl; have m4 := hmv 4 (.int 0) (by decide) (by decide) (by decide) rfl
  have LM := LA.kept frm (fun _ _ q => q)
  have frM : Fr (· = s) h F (hNew (hNew h 11 3) 12 12) Fm := frA.trans frm (fun _ _ q => q.elim)
  have a0m := (frm.at s1.lt (fun q => q) 0).trans a0
  have azm : ∀ j, 4 ≤ j → j < 8 → Fm s j = .int 0 := fun j h1 h2 => (frm.at s1.lt (fun q => q) j).trans (az j h1 h2)
  refine wf_putF (k := 1) (l := 8) 1 (.object "java/util/LinkedHashMap") dX2_init_23 (by assumption) rfl q357 (Or.inl rfl) (Nat.le_of_ble_eq_true rfl) rfl rfl rfl (by decide +kernel) (by first | rfl | exact rf_nar _ | exact rf_nar2 _) (by first | rfl | exact rf_fit _ | exact rf_fit2 _) ?_
  have frs : Fr (· = s) (hNew (hNew h 11 3) 12 12) Fm (hNew (hNew h 11 3) 12 12) (updF Fm s 1 (.ref (h.1 + 1))) := Fr.upd rfl
  have LB := LM.kept frs (fun b hb e => by rcases hb with e2 | ⟨-, z, hz⟩; omega; exact absurd (hz.uniq (hE1.new (k2 := 12) (l2 := 12))).1 (by decide))
  obtain ⟨MB, -, -, -, mbj⟩ := Mm.fr frs (fun b hb e => MFp.no Mm (e ▸ s2) (by decide) hb) (fun q hq e => (e ▸ s2).ne hq (by decide) rfl)
  have frB := frM.trans frs (fun b hb e => e)
  have b0 : updF Fm s 1 (.ref (h.1 + 1)) s 0 = .ref h.1 := updF_i (by decide) a0m
  have b1 : updF Fm s 1 (.ref (h.1 + 1)) s 1 = .ref (h.1 + 1) := updF_self _ _ _ _
  have bz : ∀ j, 4 ≤ j → j < 8 → updF Fm s 1 (.ref (h.1 + 1)) s j = .int 0 := fun j h1 h2 => updF_i (by omega) (azm j h1 h2)
  change WA _ _ _ _ _ _ (sF _ (updF Fm s 1 (.ref (h.1 + 1)))) _
  generalize updF Fm s 1 (.ref (h.1 + 1)) = FB at *
  refine wa_aloadV_n (pc := 26) (y := mX2_init) dX2_init_26 rfl (by first | exact rf_s _ | exact rf_n | exact rf_q _) ?_
  refine wa_bipush (pc := 27) (y := mX2_init) (Int32.ofNat 12) dX2_init_27 rfl ?_
  refine wf_newarray 32 dX2_init_29 (by decide) (Or.inl ⟨rfl, rfl⟩) q271 ?_
  refine wf_putF (k := 1) (l := 8) 2 (.array .int) dX2_init_31 (by assumption) rfl q359 (Or.inl rfl) (Nat.le_of_ble_eq_true rfl) rfl rfl rfl (by decide +kernel) (by first | rfl | exact rf_nar _ | exact rf_nar2 _) (by first | rfl | exact rf_fit _ | exact rf_fit2 _) ?_
  generalize hFh : updF _ _ _ _ = FC
  have frc0 : Fr (· = s) (hNew (hNew h 11 3) 12 12) FB (hNew (hNew (hNew h 11 3) 12 12) 32 12) FC := by rw [← hFh]; exact (Fr.newT (Fr.refl (P := (· = s)))).updT (Or.inl rfl)
  have nh : s ≠ h.1 + 1 + 1 := by omega
  have LC := LB.kept frc0 (fun b hb e => by rcases hb with e2 | ⟨-, z, hz⟩; omega; exact absurd (hz.uniq (hE1.new (k2 := 12) (l2 := 12))).1 (by decide))
  obtain ⟨MC, -, -, -, mcj⟩ := MB.fr frc0 (fun b hb e => MFp.no MB (e ▸ s2) (by decide) hb) (fun q hq e => (e ▸ s2).ne hq (by decide) rfl)
  have frC := frB.trans frc0 (fun b hb e => e)
  have c0 : FC s 0 = .ref h.1 := by rw [← hFh]; exact updF_i (by decide) (newF_a nh b0)
  have c1 : FC s 1 = .ref (h.1 + 1) := by rw [← hFh]; exact updF_i (by decide) (newF_a nh b1)
  have c2 : FC s 2 = .ref (h.1 + 1 + 1) := by rw [← hFh]; exact updF_self _ _ _ _
  have cz : ∀ j, 4 ≤ j → j < 8 → FC s j = .int 0 := fun j h1 h2 => by rw [← hFh]; exact updF_i (by omega) (newF_a nh (bz j h1 h2))
  have chm : ∀ j, j < 12 → FC (h.1 + 1 + 1) j = .int 0 := fun j hj => by rw [← hFh]; exact updF_a (Ne.symm nh) (newF_self rfl)
  refine wa_aloadV_n (pc := 34) (y := mX2_init) dX2_init_34 rfl (by first | exact rf_s _ | exact rf_n | exact rf_q _) ?_
  refine wf_new (k := 11) (l := 3) [.int 0, .null, .int 0] tyJ2 dX2_init_35 rfl q159 q160 q88 tyJ2_ok rfl rfl ?_
  refine wa_dup (pc := 38) (y := mX2_init) dX2_init_38 (by first | rfl | exact rf_cat _) ?_
  refine wa_callI (pc := 39) (s_J2_init (d := d - 1) (a := h.1 + 1 + 1 + 1) (by omega) hG il4 (newF_self rfl) hE4) dX2_init_39 okJ2_init rfl rfl rfl q161 q162 rfl rfl (Nat.le_of_ble_eq_true rfl) (Nat.le_of_ble_eq_true rfl) (by omega) ?_
  rintro _ _ - - ⟨rfl, F4, rfl, L4, fr4⟩
  refine aft_0 (pc2 := 42) ?_ rfl
  refine wf_putF (k := 1) (l := 8) 3 (.object "java/util/ArrayList") dX2_init_42 (by assumption) rfl q361 (Or.inl rfl) (Nat.le_of_ble_eq_true rfl) rfl rfl rfl (by decide +kernel) (by first | rfl | exact rf_nar _ | exact rf_nar2 _) (by first | rfl | exact rf_fit _ | exact rf_fit2 _) ?_
  have frd0 : Fr (· = s) (hNew (hNew (hNew h 11 3) 12 12) 32 12) FC (hNew (hNew (hNew (hNew h 11 3) 12 12) 32 12) 11 3) (updF F4 s 3 (.ref (h.1 + 1 + 1 + 1))) := ((Fr.newT (Fr.refl (P := (· = s)))).trans fr4 (fun b hb e => absurd e (by have e9 : (hNew (hNew (hNew h 11 3) 12 12) 32 12).1 = h.1 + 1 + 1 + 1 := rfl; omega))).updT (Or.inl rfl)
  have hsl : s ≠ h.1 + 1 + 1 + 1 := by omega
  have LD := LC.kept frd0 (fun b hb e => by rcases hb with e2 | ⟨-, z, hz⟩; omega; exact absurd (hz.uniq ((hE1.new (k2 := 12) (l2 := 12)).new (k2 := 32) (l2 := 12))).1 (by decide))
  obtain ⟨MD9, -, -, -, mdj⟩ := MC.fr frd0 (fun b hb e => MFp.no MC (e ▸ s3) (by decide) hb) (fun q hq e => (e ▸ s3).ne hq (by decide) rfl)
  have LF9 : LstR G (hNew (hNew (hNew (hNew h 11 3) 12 12) 32 12) 11 3) (updF F4 s 3 (.ref (h.1 + 1 + 1 + 1))) (h.1 + 1 + 1 + 1) (emA G) 0 [] := L4.kept (P := (· = s)) (Fr.upd rfl) (fun b hb e => by rcases hb with e2 | ⟨-, z, hz⟩; omega; exact absurd (hz.uniq hE4).1 (by decide))
  have fsj : ∀ j w, j ≠ 3 → FC s j = w → updF F4 s 3 (.ref (h.1 + 1 + 1 + 1)) s j = w := fun j w hj e => updF_i hj ((congrFun (fr4.2 s s4.lt hsl) j).trans (newF_a hsl e))
  refine wa_iconst (pc := 45) (y := mX2_init) (Int32.ofNat 0) dX2_init_45 rfl ?_
  refine wa_istore_n (pc := 46) (y := mX2_init) dX2_init_46 (Nat.le_of_ble_eq_true rfl) (by first | rfl | (simp [okst, rf_cat] <;> assumption)) ?_
  change WA _ _ _ _ (List.set _ 1 _) _ _ _
  simp only [List.set_cons_zero, List.set_cons_succ]
  refine WA.mono (in_47 (h := h) (F := F) (n0 := h.1) (cl := h.1) (im := h.1 + 1) (hm := h.1 + 1 + 1) (fl := h.1 + 1 + 1 + 1) (by omega) hG 12 0 _ _ (emA G) 0 [] rfl rfl ⟨s4, ⟨fsj 0 _ (by decide) c0, fsj 1 _ (by decide) c1, fsj 2 _ (by decide) c2, updF_self _ _ _ _⟩, ⟨fsj 4 _ (by decide) (cz 4 (by decide) (by decide)), fsj 5 _ (by decide) (cz 5 (by decide) (by decide)), fsj 6 _ (by decide) (cz 6 (by decide) (by decide)), fsj 7 _ (by decide) (cz 7 (by decide) (by decide))⟩, LD, LF9, MD9, ⟨(mdj 0).trans ((mcj 0).trans ((mbj 0).trans m0)), (mdj 1).trans ((mcj 1).trans ((mbj 1).trans m1)), (mdj 6).trans ((mcj 6).trans ((mbj 6).trans m6)), (mdj 7).trans ((mcj 7).trans ((mbj 7).trans m7)), (mdj 4).trans ((mcj 4).trans ((mbj 4).trans m4))⟩, ⟨ih4, fun c hc => (frd0.at ih3.lt (Ne.symm nh) c).trans (chm c hc)⟩, List.nodup_nil, fun a ha => (by cases ha), ⟨Nat.le_refl _, by omega, by omega, by omega, Or.inl rfl⟩, by omega, hE4⟩ (by show h.1 ≤ h.1 + 1 + 1 + 1 + 1; omega) rfl (frC.trans frd0 (fun b hb e => e)) ⟨by show h.1 + 1 + 1 + 1 + 1 ≤ _; omega, by show h.2.1 + 3 + 12 + 12 + 3 ≤ _; omega⟩) ?_
  rintro r h' - - ⟨rfl, h3, F3, fa, fc, fs, rfl, q⟩
  exact ⟨rfl, h3, F3, _, _, _, _, fa, fc, fs, rfl, q⟩
end SHINIT2
