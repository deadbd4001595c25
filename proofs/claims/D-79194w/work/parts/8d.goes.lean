/-! ===== a cue goes ===== -/
def gS (f g : Nat → Int32) (k c : Nat) : Nat → Int32 := if lvN f c (k + 1) = g (5 * c + 1) then g else
  upd (upd (upd (upd (upd g (5 * c) (nowG g c)) (5 * c + 1) (lvN f c (k + 1))) (5 * c + 3) (f (18 + 12 * k + 4 + 2 * ptO f (f (18 + 12 * k)) c))) (5 * c + 4) (f (18 + 12 * k + 4 + 2 * ptO f (f (18 + 12 * k)) c + 1))) (5 * c + 2) 0
def gN (f g : Nat → Int32) (k : Nat) : Nat → (Nat → Int32)
  | 0 => g
  | c + 1 => gS f (gN f g k c) k c
def gC (f g : Nat → Int32) (k : Nat) : Nat → Int32
  | 0 => 0
  | c + 1 => gC f g k c + (if lvN f c (k + 1) = gN f g k c (5 * c + 1) then 0 else 1)
def goW (f : Nat → Int32) (k : Nat) : Nat → Int32 := upd (upd (upd f 2 (f (18 + 12 * k))) 3 0) 4 (f 4 + 1)
section GOES
variable {G : GG} {d n : Nat} {h h2 : AH} {F F2 : Nat → Nat → Value} {s c k i p q a : Nat} {A : SA} {f g : Nat → Int32} {O P : Nat → Prop} {x z v : Int32}
theorem ShowR.ptl (S : ShowR G h F O s A f g) : ptO f (f (18 + 12 * k)) c < 4 := by
  unfold ptO
  split
  · rename_i i e
    obtain ⟨i1, -, -⟩ := gv_some e
    obtain ⟨p, hp⟩ : ∃ p, A.ns[i]? = some p := ⟨_, List.getElem?_eq_getElem (by rw [← S.ni]; exact i1)⟩
    exact (S.ins i p hp).2.2.1
  · omega
theorem gS_y (e : lvN f c (k + 1) = g (5 * c + 1)) : gS f g k c = g := if_pos e
theorem ShowR.fadeOf (S : ShowR G h F O s A f g) (hc : c < 12) : ∃ a, A.fs[c]? = some a := ⟨_, List.getElem?_eq_getElem (by have := S.nf; omega)⟩
theorem s_X2_goes (hd : k + 7 ≤ d) (S : ShowR G h F O s A f g) (hk : k < u (f 0)) : MA G d mX2_goes [.ref s, .int (Int32.ofNat k)] (sF h F) (fun r h' => ∃ (h2 : AH) (F2 : Nat → Nat → Value), r = .inl (some (.int (gC f g k 12))) ∧ h' = sF h2 F2 ∧ Fr (OP O h) h F h2 F2 ∧ Cst (12 * (k + 2)) h h2 ∧ ShowR G h2 F2 O s A (goW f k) (gN f g k 12)) := by
  have hn := S.nlt
  obtain ⟨a, ha⟩ := S.cu hk
  have loop : ∀ (t c : Nat) (h2 : AH) (F2 : Nat → Nat → Value) (v5 v6 : Value), c + t = 12 → v5.category = 1 → v6.category = 1 → Fr (OP O h) h F h2 F2 → Cst (c * (k + 2)) h h2 → ShowR G h2 F2 O s A f (gN f g k c) →
      WA G d mX2_goes 17 [.ref s, .int (Int32.ofNat k), .ref a, .int (gC f g k c), .int (Int32.ofNat c), v5, v6] [] (sF h2 F2) (fun r h' => ∃ (h2 : AH) (F2 : Nat → Nat → Value), r = .inl (some (.int (gC f g k 12))) ∧ h' = sF h2 F2 ∧ Fr (OP O h) h F h2 F2 ∧ Cst (12 * (k + 2)) h h2 ∧ ShowR G h2 F2 O s A (goW f k) (gN f g k 12)) := by
    intro t
    induction t with
    | zero =>
      intro c h2 F2 v5 v6 hc h5 h6 fr cst S1
      have hc : c = 12 := by omega
      subst hc
      have S1_is := S1.is; have S1_0 := S1.f0; have S1_1 := S1.f1; have S1_2 := S1.f2; have S1_3 := S1.f3; have S1_4 := S1.f4; have S1_5 := S1.f5; have S1_6 := S1.f6; have S1_7 := S1.f7; have S1_h := S1.hm; have S1_c := S1.cl.1; have S1_l := S1.fl.1; have S1_m := S1.im.1
      have C := S1.cue k a ha
      have c1 := C.1
      have c2 := C.2.2.1
      have hsO := S1.own s (Or.inl rfl)
      refine wa_iload (pc := 17) (y := mX2_goes) dX2_goes_17 rfl ?_
      refine wa_bipush (pc := 19) (y := mX2_goes) (Int32.ofNat 12) dX2_goes_19 rfl ?_
      refine wa_icmp_ge (pc := 21) 102 dX2_goes_21 rfl (fun hb21 => ?_) (fun hb21 => absurd ((iN_le (by omega) (by omega)).mpr (Nat.le_refl 12)) hb21)
      refine wa_aloadV_n (pc := 102) (y := mX2_goes) dX2_goes_102 rfl (by first | exact rf_s _ | exact rf_n | exact rf_q _) ?_
      refine wa_aloadV_n (pc := 103) (y := mX2_goes) dX2_goes_103 rfl (by first | exact rf_s _ | exact rf_n | exact rf_q _) ?_
      refine wf_getN (k := 6) (l := 6) 0 dX2_goes_104 (by assumption) rfl q1193 (Or.inl rfl) (Nat.le_of_ble_eq_true rfl) (Nat.le_of_ble_eq_true rfl) (by (repeat (first | exact updF_self _ _ _ _ | (apply updF_i; · decide) | (apply updF_a; · first | assumption | (apply Ne.symm; assumption) | omega) | (apply newF_a; · first | assumption | (apply Ne.symm; assumption) | omega) | exact newL_self (by rfl) | exact newF_self (by rfl) | (apply cpyF_a; · first | assumption | (apply Ne.symm; assumption) | omega))) <;> first | assumption | rfl) ?_
      refine wf_put (k := 1) (l := 8) 4 .int dX2_goes_107 (by assumption) rfl q363 (Or.inl rfl) (Nat.le_of_ble_eq_true rfl) rfl (by decide +kernel) rfl rfl ?_
      refine wa_aloadV_n (pc := 110) (y := mX2_goes) dX2_goes_110 rfl (by first | exact rf_s _ | exact rf_n | exact rf_q _) ?_
      refine wa_iconst (pc := 111) (y := mX2_goes) (Int32.ofNat 0) dX2_goes_111 rfl ?_
      refine wf_put (k := 1) (l := 8) 5 .int dX2_goes_112 (by assumption) rfl q365 (Or.inl rfl) (Nat.le_of_ble_eq_true rfl) rfl (by decide +kernel) rfl rfl ?_
      refine wa_aloadV_n (pc := 115) (y := mX2_goes) dX2_goes_115 rfl (by first | exact rf_s _ | exact rf_n | exact rf_q _) ?_
      refine wa_dup (pc := 116) (y := mX2_goes) dX2_goes_116 (by first | rfl | exact rf_cat _) ?_
      refine wf_get (k := 1) (l := 8) 6 dX2_goes_117 (by assumption) rfl q367 (Or.inl rfl) (Nat.le_of_ble_eq_true rfl) (Nat.le_of_ble_eq_true rfl) (by (repeat (first | exact updF_self _ _ _ _ | (apply updF_i; · decide) | (apply updF_a; · first | assumption | (apply Ne.symm; assumption) | omega) | (apply newF_a; · first | assumption | (apply Ne.symm; assumption) | omega) | exact newL_self (by rfl) | exact newF_self (by rfl) | (apply cpyF_a; · first | assumption | (apply Ne.symm; assumption) | omega))) <;> first | assumption | rfl) ?_
      refine wa_iconst (pc := 120) (y := mX2_goes) (Int32.ofNat 1) dX2_goes_120 rfl ?_
      first | with_reducible refine wa_iaddN (pc := 121) (y := mX2_goes) dX2_goes_121 ?_ | refine wa_iadd (pc := 121) (y := mX2_goes) dX2_goes_121 ?_
      refine wf_put (k := 1) (l := 8) 6 .int dX2_goes_122 (by assumption) rfl q367 (Or.inl rfl) (Nat.le_of_ble_eq_true rfl) rfl (by decide +kernel) rfl rfl ?_
      generalize hF5 : updF _ _ _ _ = F5
      have frx : Fr (· = s) h2 F2 h2 F5 := by rw [← hF5]; exact ((Fr.upd (P := (· = s)) rfl).updT (Or.inl rfl)).updT (Or.inl rfl)
      refine wa_iload_n (pc := 125) (y := mX2_goes) dX2_goes_125 rfl ?_
      refine wa_ireturn (pc := 126) (y := mX2_goes) .int dX2_goes_126 rfl rfl ⟨h2, F5, rfl, rfl, fr.trans frx (fun b hb e => e ▸ ⟨hsO, fun hk9 => by rcases hk9 with e2 | e2 | e2 <;> exact absurd rfl ((e2.ext fr.1).ne S1.is (by decide))⟩), cst, S1.setS frx (fun j hj => by rw [← hF5]; exact updF_i (by omega) (updF_i (by omega) (updF_i (by omega) rfl))) (by rw [← hF5]; exact updF_i (by decide) (updF_i (by decide) (updF_self _ _ _ _))) (by rw [← hF5]; exact updF_i (by decide) (updF_self _ _ _ _)) (by rw [← hF5]; exact updF_self _ _ _ _) (by rw [← hF5]; exact updF_i (by decide) (updF_i (by decide) (updF_i (by decide) S1.f7))) (fun j hj => by unfold goW; rw [upd_o _ _ (by omega), upd_o _ _ (by omega), upd_o _ _ (by omega)])⟩
    | succ t ih =>
      intro c h2 F2 v5 v6 hc h5 h6 fr cst S1
      have S1_is := S1.is
      have hcl : c < 12 := by omega
      obtain ⟨y, hy⟩ := S1.fadeOf hcl
      have hpt : ptO f (f (18 + 12 * k)) c < 4 := S1.ptl
      refine wa_iload (pc := 17) (y := mX2_goes) dX2_goes_17 rfl ?_
      refine wa_bipush (pc := 19) (y := mX2_goes) (Int32.ofNat 12) dX2_goes_19 rfl ?_
      refine wa_icmp_ge (pc := 21) 102 dX2_goes_21 rfl (fun hb21 => absurd ((iN_le (by omega) (by omega)).mp hb21) (by omega)) (fun hb21 => ?_)
      refine wa_aloadV_n (pc := 24) (y := mX2_goes) dX2_goes_24 rfl (by first | exact rf_s _ | exact rf_n | exact rf_q _) ?_
      refine wa_iload_n (pc := 25) (y := mX2_goes) dX2_goes_25 rfl ?_
      refine wa_iload (pc := 26) (y := mX2_goes) dX2_goes_26 rfl ?_
      refine wa_callV (pc := 28) (s_X2_level (d := d - 1) (by omega) S1 hk hcl) dX2_goes_28 okX2_level q1103 q407 q408 (sF_at (by assumption)) rfl rfl rfl (Nat.le_of_ble_eq_true rfl) (Nat.le_of_ble_eq_true rfl) (by omega) ?_
      rintro _ _ - - ⟨h3, F3, rfl, rfl, fr3, cst3⟩
      refine aft_v (pc2 := 31) ?_ rfl
      have S2 := S1.rd fr3; have S2_is := S2.is
      refine wa_istore (pc := 31) (y := mX2_goes) dX2_goes_31 (Nat.le_of_ble_eq_true rfl) (by first | rfl | (simp [okst, rf_cat] <;> assumption)) ?_
      simp only [List.set_cons_zero, List.set_cons_succ]
      refine wa_aloadV_n (pc := 33) (y := mX2_goes) dX2_goes_33 rfl (by first | exact rf_s _ | exact rf_n | exact rf_q _) ?_
      refine wa_iload_n (pc := 34) (y := mX2_goes) dX2_goes_34 rfl ?_
      refine wa_iload (pc := 35) (y := mX2_goes) dX2_goes_35 rfl ?_
      refine wa_callV (pc := 37) (s_X2_partOf (d := d - 1) (by omega) S2 hk hcl) dX2_goes_37 okX2_partOf q2294 q2107 q2108 (sF_at (by assumption)) rfl rfl rfl (Nat.le_of_ble_eq_true rfl) (Nat.le_of_ble_eq_true rfl) (by omega) ?_
      rintro _ _ - - ⟨h4, F4, rfl, rfl, fr4, cst4⟩
      refine aft_v (pc2 := 40) ?_ rfl
      have S3 := S2.rd fr4; have S3_is := S3.is; have S3_0 := S3.f0; have S3_1 := S3.f1; have S3_2 := S3.f2; have S3_3 := S3.f3; have S3_4 := S3.f4; have S3_5 := S3.f5; have S3_6 := S3.f6; have S3_7 := S3.f7; have S3_h := S3.hm; have S3_c := S3.cl.1; have S3_l := S3.fl.1; have S3_m := S3.im.1
      have T := S3.fad c y hy; have t1 := T.1; have t2 := T.2.2.1
      have C := S3.cue k a ha; have c1 := C.1; have c5 := C.2.2.2.2.2.2.1; have c6 := C.2.2.2.2.2.2.2.1; have c9 := C.2.2.2.2.2.2.2.2.1; have c10 := C.2.2.2.2.2.2.2.2.2.1; have ce := C.2.2.2.2.2.2.2.2.2.2.1 _ hpt; have ce1 := ce.1; have ce2 := ce.2
      have frA : Fr (OP O h) h F h4 F4 := fr.trans ((fr3.trans fr4 fun _ _ q => q)) fun _ _ q => q.elim
      have cstA : Cst ((c + 1) * (k + 2)) h h4 := (cst.trans (cst3.trans cst4)).mono (by rw [Nat.add_mul]; omega)
      refine wa_istore (pc := 40) (y := mX2_goes) dX2_goes_40 (Nat.le_of_ble_eq_true rfl) (by first | rfl | (simp [okst, rf_cat] <;> assumption)) ?_
      simp only [List.set_cons_zero, List.set_cons_succ]
      refine wa_iload (pc := 42) (y := mX2_goes) dX2_goes_42 rfl ?_
      refine wa_aloadV_n (pc := 44) (y := mX2_goes) dX2_goes_44 rfl (by first | exact rf_s _ | exact rf_n | exact rf_q _) ?_
      refine wf_get (k := 1) (l := 8) 3 dX2_goes_45 (by assumption) rfl q361 (Or.inl rfl) (Nat.le_of_ble_eq_true rfl) (Nat.le_of_ble_eq_true rfl) (by (repeat (first | exact updF_self _ _ _ _ | (apply updF_i; · decide) | (apply updF_a; · first | assumption | (apply Ne.symm; assumption) | omega) | (apply newF_a; · first | assumption | (apply Ne.symm; assumption) | omega) | exact newL_self (by rfl) | exact newF_self (by rfl) | (apply cpyF_a; · first | assumption | (apply Ne.symm; assumption) | omega))) <;> first | assumption | rfl) ?_
      refine wa_iload (pc := 48) (y := mX2_goes) dX2_goes_48 rfl ?_
      refine wa_callV (pc := 50) (s_J2_get (d := d - 1) (by omega) S3.fl hy) dX2_goes_50 okJ2_get q416 q417 q418 (sF_at (by assumption)) rfl rfl rfl (Nat.le_of_ble_eq_true rfl) (Nat.le_of_ble_eq_true rfl) (by omega) ?_
      rintro _ _ - - ⟨rfl, rfl⟩
      refine aft_v (pc2 := 53) ?_ rfl
      refine wa_castS (pc := 53) (y := mX2_goes) (k := 2) dX2_goes_53 (sF_at (by assumption)) rfl q246 ?_
      refine wf_getN (k := 2) (l := 5) 1 dX2_goes_56 (by assumption) rfl q254 (Or.inl rfl) (Nat.le_of_ble_eq_true rfl) (Nat.le_of_ble_eq_true rfl) (by (repeat (first | exact updF_self _ _ _ _ | (apply updF_i; · decide) | (apply updF_a; · first | assumption | (apply Ne.symm; assumption) | omega) | (apply newF_a; · first | assumption | (apply Ne.symm; assumption) | omega) | exact newL_self (by rfl) | exact newF_self (by rfl) | (apply cpyF_a; · first | assumption | (apply Ne.symm; assumption) | omega))) <;> first | assumption | rfl) ?_
      refine wa_icmp_eq (pc := 59) 96 dX2_goes_59 rfl (fun hb59 => ?_) (fun hb59 => ?_)
      · have e1 : gN f g k (c + 1) = gN f g k c := gS_y hb59
        have e2 : gC f g k (c + 1) = gC f g k c := by show _ + (if _ then _ else _) = _; rw [if_pos hb59]; exact Int32.add_zero _
        refine wa_iincN (pc := 96) (y := mX2_goes) dX2_goes_96 rfl (Nat.le_of_ble_eq_true rfl) (by first | rfl | (simp [okst, rf_cat] <;> assumption)) ?_
        simp only [List.set_cons_zero, List.set_cons_succ]
        refine wa_goto (pc := 99) (y := mX2_goes) 17 dX2_goes_99 rfl ?_
        first | (have := ih (c + 1) h4 F5 (.int (lvN f c (k + 1))) (.int (Int32.ofNat (ptO f (f (18 + 12 * k)) c))) (by omega) rfl rfl frB cstA S4; rw [e2] at this; exact this) | (have := ih (c + 1) h4 F4 (.int (lvN f c (k + 1))) (.int (Int32.ofNat (ptO f (f (18 + 12 * k)) c))) (by omega) rfl rfl frA cstA (by rw [e1]; exact S3); rw [e2] at this; exact this)
      · have e1 : gN f g k (c + 1) = upd (upd (upd (upd (upd (gN f g k c) (5 * c) (nowG (gN f g k c) c)) (5 * c + 1) (lvN f c (k + 1))) (5 * c + 3) (f (18 + 12 * k + 4 + 2 * ptO f (f (18 + 12 * k)) c))) (5 * c + 4) (f (18 + 12 * k + 4 + 2 * ptO f (f (18 + 12 * k)) c + 1))) (5 * c + 2) 0 := if_neg hb59
        have e2 : gC f g k (c + 1) = gC f g k c + 1 := by show _ + (if _ then _ else _) = _; rw [if_neg hb59]
        refine wa_aloadV_n (pc := 62) (y := mX2_goes) dX2_goes_62 rfl (by first | exact rf_s _ | exact rf_n | exact rf_q _) ?_
        refine wf_get (k := 1) (l := 8) 3 dX2_goes_63 (by assumption) rfl q361 (Or.inl rfl) (Nat.le_of_ble_eq_true rfl) (Nat.le_of_ble_eq_true rfl) (by (repeat (first | exact updF_self _ _ _ _ | (apply updF_i; · decide) | (apply updF_a; · first | assumption | (apply Ne.symm; assumption) | omega) | (apply newF_a; · first | assumption | (apply Ne.symm; assumption) | omega) | exact newL_self (by rfl) | exact newF_self (by rfl) | (apply cpyF_a; · first | assumption | (apply Ne.symm; assumption) | omega))) <;> first | assumption | rfl) ?_
        refine wa_iload (pc := 66) (y := mX2_goes) dX2_goes_66 rfl ?_
        refine wa_callV (pc := 68) (s_J2_get (d := d - 1) (by omega) S3.fl hy) dX2_goes_68 okJ2_get q416 q417 q418 (sF_at (by assumption)) rfl rfl rfl (Nat.le_of_ble_eq_true rfl) (Nat.le_of_ble_eq_true rfl) (by omega) ?_
        rintro _ _ - - ⟨rfl, rfl⟩
        refine aft_v (pc2 := 71) ?_ rfl
        refine wa_castS (pc := 71) (y := mX2_goes) (k := 2) dX2_goes_71 (sF_at (by assumption)) rfl q246 ?_
        refine wa_iload (pc := 74) (y := mX2_goes) dX2_goes_74 rfl ?_
        refine wa_aloadV_n (pc := 76) (y := mX2_goes) dX2_goes_76 rfl (by first | exact rf_s _ | exact rf_n | exact rf_q _) ?_
        refine wf_getN (k := 6) (l := 6) 4 dX2_goes_77 (by assumption) rfl q1206 (Or.inl rfl) (Nat.le_of_ble_eq_true rfl) (Nat.le_of_ble_eq_true rfl) (by (repeat (first | exact updF_self _ _ _ _ | (apply updF_i; · decide) | (apply updF_a; · first | assumption | (apply Ne.symm; assumption) | omega) | (apply newF_a; · first | assumption | (apply Ne.symm; assumption) | omega) | exact newL_self (by rfl) | exact newF_self (by rfl) | (apply cpyF_a; · first | assumption | (apply Ne.symm; assumption) | omega))) <;> first | assumption | rfl) ?_
        refine wa_iload (pc := 80) (y := mX2_goes) dX2_goes_80 rfl ?_
        refine wf_iaload dX2_goes_82 (by assumption) (by omega) (by (repeat (first | exact updF_self _ _ _ _ | (apply updF_i; · decide) | (apply updF_a; · first | assumption | (apply Ne.symm; assumption) | omega) | (apply newF_a; · first | assumption | (apply Ne.symm; assumption) | omega) | exact newL_self (by rfl) | exact newF_self (by rfl) | (apply cpyF_a; · first | assumption | (apply Ne.symm; assumption) | omega))) <;> first | assumption | rfl) ?_
        refine wa_aloadV_n (pc := 83) (y := mX2_goes) dX2_goes_83 rfl (by first | exact rf_s _ | exact rf_n | exact rf_q _) ?_
        refine wf_getN (k := 6) (l := 6) 5 dX2_goes_84 (by assumption) rfl q1209 (Or.inl rfl) (Nat.le_of_ble_eq_true rfl) (Nat.le_of_ble_eq_true rfl) (by (repeat (first | exact updF_self _ _ _ _ | (apply updF_i; · decide) | (apply updF_a; · first | assumption | (apply Ne.symm; assumption) | omega) | (apply newF_a; · first | assumption | (apply Ne.symm; assumption) | omega) | exact newL_self (by rfl) | exact newF_self (by rfl) | (apply cpyF_a; · first | assumption | (apply Ne.symm; assumption) | omega))) <;> first | assumption | rfl) ?_
        refine wa_iload (pc := 87) (y := mX2_goes) dX2_goes_87 rfl ?_
        refine wf_iaload dX2_goes_89 (by assumption) (by omega) (by (repeat (first | exact updF_self _ _ _ _ | (apply updF_i; · decide) | (apply updF_a; · first | assumption | (apply Ne.symm; assumption) | omega) | (apply newF_a; · first | assumption | (apply Ne.symm; assumption) | omega) | exact newL_self (by rfl) | exact newF_self (by rfl) | (apply cpyF_a; · first | assumption | (apply Ne.symm; assumption) | omega))) <;> first | assumption | rfl) ?_
        refine wa_callV (pc := 90) (s_X3_begin (d := d - 1) (by omega) T) dX2_goes_90 okX3_begin q2295 q2296 q2297 (sF_at (by assumption)) rfl rfl rfl (Nat.le_of_ble_eq_true rfl) (Nat.le_of_ble_eq_true rfl) (by omega) ?_
        rintro _ _ - - ⟨rfl, rfl⟩
        refine aft_0 (pc2 := 93) ?_ rfl
        generalize hF5 : updF _ _ _ _ = F5
        have frx : Fr (· = y) h4 F4 h4 F5 := by rw [← hF5]; exact ((((Fr.upd (P := (· = y)) rfl).updT (Or.inl rfl)).updT (Or.inl rfl)).updT (Or.inl rfl)).updT (Or.inl rfl)
        have hyO := S3.own y (Or.inr (Or.inr (Or.inr (Or.inr (Or.inr (Or.inl (List.mem_of_getElem? hy)))))))
        have frB : Fr (OP O h) h F h4 F5 := frA.trans frx (fun b hb e => e ▸ ⟨hyO, fun hk9 => by rcases hk9 with e2 | e2 | e2 <;> exact absurd rfl ((e2.ext frA.1).ne t1 (by decide))⟩)
        have S4 : ShowR G h4 F5 O s A f (gN f g k (c + 1)) := S3.setFd hy frx (by rw [e1]; exact ⟨t1, by rw [← hF5, upd_o _ _ (by omega), upd_o _ _ (by omega), upd_o _ _ (by omega), upd_o _ _ (by omega), upd_s]; exact updF_i (by decide) (updF_i (by decide) (updF_i (by decide) (updF_i (by decide) (updF_self _ _ _ _)))), by rw [← hF5, upd_o _ _ (by omega), upd_o _ _ (by omega), upd_o _ _ (by omega), upd_s]; exact updF_i (by decide) (updF_i (by decide) (updF_i (by decide) (updF_self _ _ _ _))), by rw [← hF5, upd_o _ _ (by omega), upd_o _ _ (by omega), upd_s]; exact updF_i (by decide) (updF_i (by decide) (updF_self _ _ _ _)), by rw [← hF5, upd_o _ _ (by omega), upd_s]; exact updF_i (by decide) (updF_self _ _ _ _), by rw [← hF5, upd_s]; exact updF_self _ _ _ _⟩) (fun c2 j hc2 hne hj => by rw [e1, upd_o _ _ (by omega), upd_o _ _ (by omega), upd_o _ _ (by omega), upd_o _ _ (by omega), upd_o _ _ (by omega)])
        refine wa_iinc (pc := 93) (y := mX2_goes) (1) dX2_goes_93 rfl rfl (Nat.le_of_ble_eq_true rfl) rfl ?_
        simp only [List.set_cons_zero, List.set_cons_succ]
        refine wa_iincN (pc := 96) (y := mX2_goes) dX2_goes_96 rfl (Nat.le_of_ble_eq_true rfl) (by first | rfl | (simp [okst, rf_cat] <;> assumption)) ?_
        simp only [List.set_cons_zero, List.set_cons_succ]
        refine wa_goto (pc := 99) (y := mX2_goes) 17 dX2_goes_99 rfl ?_
        first | (have := ih (c + 1) h4 F5 (.int (lvN f c (k + 1))) (.int (Int32.ofNat (ptO f (f (18 + 12 * k)) c))) (by omega) rfl rfl frB cstA S4; rw [e2] at this; exact this) | (have := ih (c + 1) h4 F4 (.int (lvN f c (k + 1))) (.int (Int32.ofNat (ptO f (f (18 + 12 * k)) c))) (by omega) rfl rfl frA cstA (by rw [e1]; exact S3); rw [e2] at this; exact this)
  have S_is := S.is; have S_0 := S.f0; have S_1 := S.f1; have S_2 := S.f2; have S_3 := S.f3; have S_4 := S.f4; have S_5 := S.f5; have S_6 := S.f6; have S_7 := S.f7; have S_h := S.hm; have S_c := S.cl.1; have S_l := S.fl.1; have S_m := S.im.1
  have C := S.cue k a ha
  have c1 := C.1
  change WA G d mX2_goes 0 [.ref s, .int (Int32.ofNat k), .retAddr 0, .retAddr 0, .retAddr 0, .retAddr 0, .retAddr 0] [] _ _
  refine wa_aloadV_n (pc := 0) (y := mX2_goes) dX2_goes_0 rfl (by first | exact rf_s _ | exact rf_n | exact rf_q _) ?_
  refine wf_get (k := 1) (l := 8) 0 dX2_goes_1 (by assumption) rfl q355 (Or.inl rfl) (Nat.le_of_ble_eq_true rfl) (Nat.le_of_ble_eq_true rfl) (by (repeat (first | exact updF_self _ _ _ _ | (apply updF_i; · decide) | (apply updF_a; · first | assumption | (apply Ne.symm; assumption) | omega) | (apply newF_a; · first | assumption | (apply Ne.symm; assumption) | omega) | exact newL_self (by rfl) | exact newF_self (by rfl) | (apply cpyF_a; · first | assumption | (apply Ne.symm; assumption) | omega))) <;> first | assumption | rfl) ?_
  refine wa_iload_n (pc := 4) (y := mX2_goes) dX2_goes_4 rfl ?_
  refine wa_callV (pc := 5) (s_J2_get (d := d - 1) (by omega) S.cl ha) dX2_goes_5 okJ2_get q416 q417 q418 (sF_at (by assumption)) rfl rfl rfl (Nat.le_of_ble_eq_true rfl) (Nat.le_of_ble_eq_true rfl) (by omega) ?_
  rintro _ _ - - ⟨rfl, rfl⟩
  refine aft_v (pc2 := 8) ?_ rfl
  refine wa_castS (pc := 8) (y := mX2_goes) (k := 6) dX2_goes_8 (sF_at (by assumption)) rfl q430 ?_
  refine wa_astoreV_n (pc := 11) (y := mX2_goes) dX2_goes_11 (Nat.le_of_ble_eq_true rfl) (by first | rfl | (simp [okst, rf_cat] <;> assumption)) (by first | exact rf_s _ | exact rf_n | exact rf_q _) ?_
  change WA _ _ _ _ (List.set _ 2 _) _ _ _
  simp only [List.set_cons_zero, List.set_cons_succ]
  refine wa_iconst (pc := 12) (y := mX2_goes) (Int32.ofNat 0) dX2_goes_12 rfl ?_
  refine wa_istore_n (pc := 13) (y := mX2_goes) dX2_goes_13 (Nat.le_of_ble_eq_true rfl) (by first | rfl | (simp [okst, rf_cat] <;> assumption)) ?_
  change WA _ _ _ _ (List.set _ 3 _) _ _ _
  simp only [List.set_cons_zero, List.set_cons_succ]
  refine wa_iconst (pc := 14) (y := mX2_goes) (Int32.ofNat 0) dX2_goes_14 rfl ?_
  refine wa_istore (pc := 15) (y := mX2_goes) dX2_goes_15 (Nat.le_of_ble_eq_true rfl) (by first | rfl | (simp [okst, rf_cat] <;> assumption)) ?_
  simp only [List.set_cons_zero, List.set_cons_succ]
  exact loop 12 0 h F _ _ rfl rfl rfl Fr.refl (Cst.refl.mono (Nat.zero_le _)) S
end GOES
