/-! ===== the Show's constructor ===== -/
def InI (G : GG) (h : AH) (F : Nat → Nat → Value) (s cl im hm fl fa fc : Nat) (fs : List Nat) (n0 : Nat) : Prop :=
  Is h s 1 8 ∧ (F s 0 = .ref cl ∧ F s 1 = .ref im ∧ F s 2 = .ref hm ∧ F s 3 = .ref fl) ∧ (F s 4 = .int 0 ∧ F s 5 = .int 0 ∧ F s 6 = .int 0 ∧ F s 7 = .int 0) ∧ LstR G h F cl (emA G) 0 [] ∧ LstR G h F fl fa fc fs ∧ MapR h F im [] ∧
  (F im 0 = .null ∧ F im 1 = .null ∧ F im 6 = .null ∧ F im 7 = .null ∧ F im 4 = .int 0) ∧ (Is h hm 32 12 ∧ ∀ c, c < 12 → F hm c = .int 0) ∧ fs.Nodup ∧ (∀ a, a ∈ fs → Is h a 2 5 ∧ n0 ≤ a ∧ ∀ j, j < 5 → F a j = .int 0) ∧ (n0 ≤ cl ∧ n0 ≤ im ∧ n0 ≤ hm ∧ n0 ≤ fl ∧ (fa = emA G ∨ n0 ≤ fa)) ∧ cl ≠ fl ∧ Is h (emA G) 43 0
section SHINIT
variable {G : GG} {d n : Nat} {h h1 h2 h3 : AH} {F F1 F2 F3 : Nat → Nat → Value} {s c k i j p q a cl im hm fl fa fc fa2 fc2 n0 : Nat} {fs fs2 : List Nat} {O P : Nat → Prop}
theorem lf_emp {b cap : Nat} {xs : List Nat} (L : LstR G h F fl fa fc fs) (hE : Is h (emA G) 43 0) (hb : LF h fl (emA G) b) : b = fl := by
  rcases hb with e | ⟨-, z, hz⟩
  · exact e
  · exact absurd (hz.uniq hE).1 (by decide)
theorem InI.step (I : InI G h F s cl im hm fl fa fc fs n0) (fr : Fr P h F h2 F2) (hP : ∀ b, P b → LF h fl fa b) (L2 : LstR G h2 F2 fl fa2 fc2 fs2) (hfa : fa2 = fa ∨ n0 ≤ fa2) (hn : fs2.Nodup) (hf : ∀ a, a ∈ fs2 → Is h2 a 2 5 ∧ n0 ≤ a ∧ ∀ j, j < 5 → F2 a j = .int 0) : InI G h2 F2 s cl im hm fl fa2 fc2 fs2 n0 := by
  obtain ⟨i1, ⟨i2, i3, i4, i5⟩, ⟨i6, i7, i8, i9⟩, i10, i11, i12, ⟨i13, i14, i15, i16, i17⟩, ⟨i18, i19⟩, -, -, ⟨i20, i21, i22, i23, i24⟩, i25, i26⟩ := I
  have no : ∀ {b k l : Nat}, Is h b k l → k ≠ 11 → k ≠ 35 → ¬ P b := fun hi h1 h2 hp => by
    rcases hP _ hp with e | ⟨e, z, hz⟩
    · exact hi.ne i11.1 h1 e
    · exact hi.ne hz h2 e
  have es := fr.at i1.lt (no i1 (by decide) (by decide))
  have eh := fr.at i18.lt (no i18 (by decide) (by decide))
  have em := fr.at i12.1.lt (no i12.1 (by decide) (by decide))
  refine ⟨fr.is i1, ⟨(es 0).trans i2, (es 1).trans i3, (es 2).trans i4, (es 3).trans i5⟩, ⟨(es 4).trans i6, (es 5).trans i7, (es 6).trans i8, (es 7).trans i9⟩, i10.kept fr (fun b hb hp => ?_), L2, (i12.fr fr (fun b hb hp => ?_) (fun q hq => no hq (by decide) (by decide))).1, ⟨(em 0).trans i13, (em 1).trans i14, (em 6).trans i15, (em 7).trans i16, (em 4).trans i17⟩, ⟨fr.is i18, fun c hc => (eh c).trans (i19 c hc)⟩, hn, hf, ⟨i20, i21, i22, i23, ?_⟩, i25, fr.is i26⟩
  · rcases hb with e | ⟨-, z, hz⟩
    · rcases hP _ hp with e2 | ⟨e2, z2, hz2⟩
      · exact i25 (e.symm.trans e2)
      · exact i10.1.ne hz2 (by decide) (e.symm.trans e2)
    · exact absurd (hz.uniq i26).1 (by decide)
  · exact (hP b hp).noM i12 i11 hb
  · rcases hfa with rfl | e
    · exact i24
    · exact Or.inr e
theorem InI.show (I : InI G h F s cl im hm fl fa fc fs n0) (hl : fs.length = 12) : ShowR G h F (fun b => b = s ∨ n0 ≤ b) s (mkSA cl (emA G) 0 [] im 0 [] hm fl fa fc fs (fun _ => 0) (fun _ => 0)) (fun _ => 0) (fun _ => 0) := by
  obtain ⟨i1, ⟨i2, i3, i4, i5⟩, ⟨i6, i7, i8, i9⟩, i10, i11, i12, ⟨i13, i14, i15, i16, i17⟩, ⟨i18, i19⟩, i27, i28, ⟨i20, i21, i22, i23, i24⟩, i25, i26⟩ := I
  refine ⟨i1, i2, i3, i4, i5, i6, i7, i8, i9, i10, i11, i12, Or.inl ⟨i13, rfl⟩, i18, i19, rfl, Nat.zero_le 12, rfl, Nat.zero_le 75, hl, fun k a hk => (by have hk : ([] : List Nat)[k]? = some a := hk; simp at hk), fun i p hi => (by have hi : ([] : List Nat)[i]? = some p := hi; simp at hi), fun c a hc => ?_, i25, fun c hc => absurd (hc.uniq i26).1 (by decide), List.nodup_nil, i27, fun a b ha => (by cases ha), fun a b ha => (by cases ha), fun a ha => (by cases ha), fun b hb => ?_⟩
  · obtain ⟨j1, -, j2⟩ := i28 a (List.mem_of_getElem? hc)
    exact ⟨j1, j2 0 (by decide), j2 1 (by decide), j2 2 (by decide), j2 3 (by decide), j2 4 (by decide)⟩
  · rcases hb with e | e | e | e | e | e | ⟨a, ha, -⟩
    · exact Or.inl e
    · exact Or.inr (by rw [e]; exact i22)
    · rcases e with e | ⟨-, z, hz⟩
      · exact Or.inr (by rw [e]; exact i20)
      · exact absurd (hz.uniq i26).1 (by decide)
    · rcases e with e | ⟨e, z, hz⟩
      · exact Or.inr (by rw [e]; exact i23)
      · rcases i24 with e2 | e2
        · have hz : Is h fa 35 z := hz
          rw [e2] at hz
          exact absurd (hz.uniq i26).1 (by decide)
        · exact Or.inr (by rw [e]; exact e2)
    · rcases e with e | e | e | e | e | e
      · exact Or.inr (by rw [e]; exact i21)
      · cases e
      · have e : F im 0 = .ref b := e
        rw [i13] at e; cases e
      · have e : F im 1 = .ref b := e
        rw [i14] at e; cases e
      · have e : F im 6 = .ref b := e
        rw [i15] at e; cases e
      · have e : F im 7 = .ref b := e
        rw [i16] at e; cases e
    · exact Or.inr (i28 b e).2.1
    · cases ha
theorem in_47 (hd : 8 ≤ d) (hG : StG G) : ∀ (t k : Nat) (h2 : AH) (F2 : Nat → Nat → Value) (fa fc : Nat) (fs : List Nat), k + t = 12 → fs.length = k → InI G h2 F2 s cl im hm fl fa fc fs n0 → n0 ≤ h2.1 → n0 = h.1 → Fr (· = s) h F h2 F2 → Cst (20 + 52 * k) h h2 →
    WA G d mX2_init 47 [.ref s, .int (Int32.ofNat k)] [] (sF h2 F2) (fun r h' => r = .inl none ∧ ∃ h3 F3 fa fc fs, h' = sF h3 F3 ∧ InI G h3 F3 s cl im hm fl fa fc fs n0 ∧ fs.length = 12 ∧ Fr (· = s) h F h3 F3 ∧ Cst 644 h h3) := by
  intro t
  induction t with
  | zero =>
    intro k h2 F2 fa fc fs hk hl I hn hn0 fr cst
    have hk : k = 12 := by omega
    subst hk
    refine wa_iload_n (pc := 47) (y := mX2_init) dX2_init_47 rfl ?_
    refine wa_bipush (pc := 48) (y := mX2_init) (Int32.ofNat 12) dX2_init_48 rfl ?_
    refine wa_icmp_ge (pc := 50) 74 dX2_init_50 rfl (fun hb50 => ?_) (fun hb50 => absurd ((iN_le (by omega) (by omega)).mpr (Nat.le_refl 12)) hb50)
    refine wa_return (pc := 74) (y := mX2_init) dX2_init_74 rfl ⟨rfl, h2, F2, fa, fc, fs, rfl, I, hl, fr, cst⟩
  | succ t ih =>
    intro k h2 F2 fa fc fs hk hl I hn hn0 fr cst
    have I9 := I
    obtain ⟨i1, ⟨i2, i3, i4, i5⟩, ⟨i6, i7, i8, i9⟩, i10, i11, i12, -, ⟨i18, i19⟩, i27, i28, ⟨i20, i21, i22, i23, i24⟩, i25, i26⟩ := I
    have hns : s ≠ h2.1 := Nat.ne_of_lt i1.lt
    have fr2 : Fr NoP h2 F2 (hNew h2 2 5) (newF F2 h2.1 (fun i => [Value.int 0, .int 0, .int 0, .int 0, .int 0].getD i .null)) := Fr.newT Fr.refl
    have L2 := i11.kept fr2 (fun _ _ q => q)
    have ifd : Is (hNew h2 2 5) h2.1 2 5 := Is.self
    have I2 : InI G (hNew h2 2 5) (newF F2 h2.1 (fun i => [Value.int 0, .int 0, .int 0, .int 0, .int 0].getD i .null)) s cl im hm fl fa fc fs n0 := I9.step fr2 (fun _ q => q.elim) L2 (Or.inl rfl) i27 (fun a ha => ⟨fr2.is (i28 a ha).1, (i28 a ha).2.1, fun j hj => (fr2.at (i28 a ha).1.lt (fun q => q) j).trans ((i28 a ha).2.2 j hj)⟩)
    have hf0 : ∀ j, j < 5 → newF F2 h2.1 (fun i => [Value.int 0, .int 0, .int 0, .int 0, .int 0].getD i .null) h2.1 j = .int 0 := fun j hj => by
      refine newF_self ?_
      rcases (show j = 0 ∨ j = 1 ∨ j = 2 ∨ j = 3 ∨ j = 4 by omega) with rfl | rfl | rfl | rfl | rfl <;> rfl
    have ifl := L2.1
    have hfs : ∀ a, a ∈ fs → a < h2.1 := fun a ha => (i28 a ha).1.lt
    refine wa_iload_n (pc := 47) (y := mX2_init) dX2_init_47 rfl ?_
    refine wa_bipush (pc := 48) (y := mX2_init) (Int32.ofNat 12) dX2_init_48 rfl ?_
    refine wa_icmp_ge (pc := 50) 74 dX2_init_50 rfl (fun hb50 => absurd ((iN_le (by omega) (by omega)).mp hb50) (by omega)) (fun hb50 => ?_)
    refine wa_aloadV_n (pc := 53) (y := mX2_init) dX2_init_53 rfl (by first | exact rf_s _ | exact rf_n | exact rf_q _) ?_
    refine wf_get (k := 1) (l := 8) 3 dX2_init_54 (by assumption) rfl q361 (Or.inl rfl) (Nat.le_of_ble_eq_true rfl) (Nat.le_of_ble_eq_true rfl) (by (repeat (first | exact updF_self _ _ _ _ | (apply updF_i; · decide) | (apply updF_a; · first | assumption | (apply Ne.symm; assumption) | omega) | (apply newF_a; · first | assumption | (apply Ne.symm; assumption) | omega) | exact newL_self (by rfl) | exact newF_self (by rfl) | (apply cpyF_a; · first | assumption | (apply Ne.symm; assumption) | omega))) <;> first | assumption | rfl) ?_
    refine wf_new (k := 2) (l := 5) [.int 0, .int 0, .int 0, .int 0, .int 0] tyX3 dX2_init_57 rfl q246 q247 q92 tyX3_ok rfl rfl ?_
    refine wa_dup (pc := 60) (y := mX2_init) dX2_init_60 (by first | rfl | exact rf_cat _) ?_
    refine wa_callIN (pc := 61) (s_X3_init (d := d - 1) (by omega)) dX2_init_61 okX3_init rfl rfl rfl q248 q249 rfl rfl (Nat.le_of_ble_eq_true rfl) (Nat.le_of_ble_eq_true rfl) (by omega) ?_
    rintro _ _ - - ⟨rfl, rfl⟩
    refine aft_0 (pc2 := 64) ?_ rfl
    refine wa_callV (pc := 64) (s_J2_add (d := d - 1) (by omega) hG L2 (by omega) ⟨2, 5, ifd, Or.inr (Or.inl rfl)⟩) dX2_init_64 okJ2_add q272 q273 q274 (sF_at (by assumption)) rfl rfl rfl (Nat.le_of_ble_eq_true rfl) (Nat.le_of_ble_eq_true rfl) (by omega) ?_
    rintro _ _ - - ⟨rfl, h3, F3, fa3, fc3, rfl, L3, fr3, har, b1, b2⟩
    refine aft_v (pc2 := 67) ?_ rfl
    refine wa_pop (pc := 67) (y := mX2_init) dX2_init_67 (by first | rfl | exact rf_cat _) ?_
    refine wa_iincN (pc := 68) (y := mX2_init) dX2_init_68 rfl (Nat.le_of_ble_eq_true rfl) (by first | rfl | (simp [okst, rf_cat] <;> assumption)) ?_
    simp only [List.set_cons_zero, List.set_cons_succ]
    refine wa_goto (pc := 71) (y := mX2_init) 47 dX2_init_71 rfl ?_
    have I3 := I2.step fr3 (fun b hb => hb) L3 (har.imp (fun q => q) (fun q => Nat.le_trans (Nat.le_succ_of_le hn) q)) (by rw [List.nodup_append]; exact ⟨i27, List.nodup_cons.mpr ⟨by simp, List.nodup_nil⟩, fun x hx y hy => by simp at hy; subst hy; exact Nat.ne_of_lt (hfs x hx)⟩) (fun a ha => by
      have hne : ∀ b l, Is (hNew h2 2 5) b 2 l → ¬ LF (hNew h2 2 5) fl fa b := fun b l hb q => by rcases q with e | ⟨e, z, hz⟩; exact hb.ne ifl (by decide) e; exact hb.ne hz (by decide) e
      rcases List.mem_append.mp ha with ha | ha
      · have i2 := I2.2.2.2.2.2.2.2.2.2.1 a ha; exact ⟨fr3.is i2.1, i2.2.1, fun j hj => (fr3.at i2.1.lt (hne _ _ i2.1) j).trans (i2.2.2 j hj)⟩
      · simp at ha; subst ha; exact ⟨fr3.is ifd, hn, fun j hj => (fr3.at ifd.lt (hne _ _ ifd) j).trans (hf0 j hj)⟩)
    refine ih (k + 1) h3 F3 fa3 fc3 _ (by omega) (by simp [hl]) I3 (Nat.le_trans (Nat.le_succ_of_le hn) fr3.1.1) hn0 ((fr.trans fr2 (fun _ _ q => q.elim)).trans fr3 (fun b hb hb2 => ?_)) (cst.trans (show Cst 52 h2 h3 from ⟨by have e : (hNew h2 2 5).1 = h2.1 + 1 := rfl; omega, by have e : (hNew h2 2 5).2.1 = h2.2.1 + 5 := rfl; omega⟩))
    exfalso; rcases hb2 with e | ⟨e, z, hz⟩
    · omega
    · rcases i24 with e2 | e2; exact absurd ((e2 ▸ hz : Is (hNew h2 2 5) (emA G) 35 z).uniq (fr2.is i26)).1 (by decide); omega
end SHINIT
