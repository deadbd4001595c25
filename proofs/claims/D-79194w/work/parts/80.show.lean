/-! ===== the Show on the heap: its relation to the model's state (f: everything but the fades, g: the fades) ===== -/
/-- the cells of a show -/
abbrev SA : Type := Nat × Nat × Nat × List Nat × Nat × Nat × List Nat × Nat × Nat × Nat × Nat × List Nat × (Nat → Nat) × (Nat → Nat)
abbrev SA.cl (A : SA) : Nat := A.1
abbrev SA.ca (A : SA) : Nat := A.2.1
abbrev SA.cc (A : SA) : Nat := A.2.2.1
abbrev SA.cs (A : SA) : List Nat := A.2.2.2.1
abbrev SA.im (A : SA) : Nat := A.2.2.2.2.1
abbrev SA.ks (A : SA) : Nat := A.2.2.2.2.2.1
abbrev SA.ns (A : SA) : List Nat := A.2.2.2.2.2.2.1
abbrev SA.hm (A : SA) : Nat := A.2.2.2.2.2.2.2.1
abbrev SA.fl (A : SA) : Nat := A.2.2.2.2.2.2.2.2.1
abbrev SA.fa (A : SA) : Nat := A.2.2.2.2.2.2.2.2.2.1
abbrev SA.fc (A : SA) : Nat := A.2.2.2.2.2.2.2.2.2.2.1
abbrev SA.fs (A : SA) : List Nat := A.2.2.2.2.2.2.2.2.2.2.2.1
abbrev SA.dl (A : SA) : Nat → Nat := A.2.2.2.2.2.2.2.2.2.2.2.2.1
abbrev SA.tm (A : SA) : Nat → Nat := A.2.2.2.2.2.2.2.2.2.2.2.2.2
abbrev mkSA (cl : Nat) (ca : Nat) (cc : Nat) (cs : List Nat) (im : Nat) (ks : Nat) (ns : List Nat) (hm : Nat) (fl : Nat) (fa : Nat) (fc : Nat) (fs : List Nat) (dl : Nat → Nat) (tm : Nat → Nat) : SA := (cl, ca, cc, cs, im, ks, ns, hm, fl, fa, fc, fs, dl, tm)
def CueR (h : AH) (F : Nat → Nat → Value) (dl tm : Nat) (f : Nat → Int32) (a k : Nat) : Prop :=
  Is h a 6 6 ∧ (1 ≤ u (f (18 + 12 * k)) ∧ u (f (18 + 12 * k)) ≤ 99) ∧ F a 0 = .int (f (18 + 12 * k)) ∧ F a 1 = .int (f (18 + 12 * k + 2)) ∧ F a 2 = .int (f (18 + 12 * k + 3)) ∧ F a 3 = .int (f (18 + 12 * k + 1)) ∧
  F a 4 = .ref dl ∧ F a 5 = .ref tm ∧ Is h dl 32 4 ∧ Is h tm 32 4 ∧ (∀ q, q < 4 → F dl q = .int (f (18 + 12 * k + 4 + 2 * q)) ∧ F tm q = .int (f (18 + 12 * k + 4 + 2 * q + 1))) ∧
  (f (18 + 12 * k + 2) = 0 ∨ f (18 + 12 * k + 2) = 1) ∧ (f (18 + 12 * k + 3) = 0 ∨ f (18 + 12 * k + 3) = 1)
def TldR (h : AH) (F : Nat → Nat → Value) (t : Nat) (lev part : Int32) : Prop := u part < 4 ∧ F t 0 = .int part ∧ (lev = -1 ∧ Is h t 8 1 ∨ lev ≠ -1 ∧ Is h t 7 2 ∧ F t 1 = .int lev)
def FadR (h : AH) (F : Nat → Nat → Value) (g : Nat → Int32) (a c : Nat) : Prop :=
  Is h a 2 5 ∧ F a 0 = .int (g (5 * c)) ∧ F a 1 = .int (g (5 * c + 1)) ∧ F a 2 = .int (g (5 * c + 3)) ∧ F a 3 = .int (g (5 * c + 4)) ∧ F a 4 = .int (g (5 * c + 2))
def InsR (h : AH) (F : Nat → Nat → Value) (f : Nat → Int32) (i p : Nat) : Prop :=
  f (162 + 4 * i) = Int32.ofNat (kF F p / 12) ∧ f (162 + 4 * i + 1) = Int32.ofNat (kF F p % 12) ∧ TldR h F (vF F p) (f (162 + 4 * i + 2)) (f (162 + 4 * i + 3))
/-- what the show's mutators may touch -/
def SFp (h : AH) (F : Nat → Nat → Value) (A : SA) (s b : Nat) : Prop := b = s ∨ b = A.hm ∨ LF h A.cl A.ca b ∨ LF h A.fl A.fa b ∨ MFp F A.im A.ns b ∨ b ∈ A.fs ∨ ∃ a, a ∈ A.cs ∧ (b = a ∨ b = A.dl a ∨ b = A.tm a)
def ShowR (G : GG) (h : AH) (F : Nat → Nat → Value) (O : Nat → Prop) (s : Nat) (A : SA) (f g : Nat → Int32) : Prop :=
  Is h s 1 8 ∧
  F s 0 = .ref A.cl ∧
  F s 1 = .ref A.im ∧
  F s 2 = .ref A.hm ∧
  F s 3 = .ref A.fl ∧
  F s 4 = .int (f 2) ∧
  F s 5 = .int (f 3) ∧
  F s 6 = .int (f 4) ∧
  F s 7 = .int (f 5) ∧
  LstR G h F A.cl A.ca A.cc A.cs ∧
  LstR G h F A.fl A.fa A.fc A.fs ∧
  MapR h F A.im A.ns ∧
  TK h F A.im A.ks ∧
  Is h A.hm 32 12 ∧
  (∀ c, c < 12 → F A.hm c = .int (f (6 + c))) ∧
  u (f 0) = A.cs.length ∧
  A.cs.length ≤ 12 ∧
  u (f 1) = A.ns.length ∧
  A.ns.length ≤ 75 ∧
  A.fs.length = 12 ∧
  (∀ k a, A.cs[k]? = some a → CueR h F (A.dl a) (A.tm a) f a k) ∧
  (∀ i p, A.ns[i]? = some p → InsR h F f i p) ∧
  (∀ c a, A.fs[c]? = some a → FadR h F g a c) ∧
  A.cl ≠ A.fl ∧
  (∀ c, Is h A.ca 35 c → A.ca ≠ A.fa) ∧
  A.cs.Nodup ∧
  A.fs.Nodup ∧
  (∀ a b, a ∈ A.cs → b ∈ A.cs → A.dl a ≠ A.tm b) ∧
  (∀ a b, a ∈ A.cs → b ∈ A.cs → a ≠ b → A.dl a ≠ A.dl b ∧ A.tm a ≠ A.tm b) ∧
  (∀ a, a ∈ A.cs → A.dl a ≠ A.hm ∧ A.tm a ≠ A.hm) ∧
  (∀ b, SFp h F A s b → O b)
section SHOWA
variable {G : GG} {h : AH} {F : Nat → Nat → Value} {O : Nat → Prop} {s : Nat} {A : SA} {f g : Nat → Int32}
theorem ShowR.is (S : ShowR G h F O s A f g) : Is h s 1 8 := S.1
theorem ShowR.f0 (S : ShowR G h F O s A f g) : F s 0 = .ref A.cl := S.2.1
theorem ShowR.f1 (S : ShowR G h F O s A f g) : F s 1 = .ref A.im := S.2.2.1
theorem ShowR.f2 (S : ShowR G h F O s A f g) : F s 2 = .ref A.hm := S.2.2.2.1
theorem ShowR.f3 (S : ShowR G h F O s A f g) : F s 3 = .ref A.fl := S.2.2.2.2.1
theorem ShowR.f4 (S : ShowR G h F O s A f g) : F s 4 = .int (f 2) := S.2.2.2.2.2.1
theorem ShowR.f5 (S : ShowR G h F O s A f g) : F s 5 = .int (f 3) := S.2.2.2.2.2.2.1
theorem ShowR.f6 (S : ShowR G h F O s A f g) : F s 6 = .int (f 4) := S.2.2.2.2.2.2.2.1
theorem ShowR.f7 (S : ShowR G h F O s A f g) : F s 7 = .int (f 5) := S.2.2.2.2.2.2.2.2.1
theorem ShowR.cl (S : ShowR G h F O s A f g) : LstR G h F A.cl A.ca A.cc A.cs := S.2.2.2.2.2.2.2.2.2.1
theorem ShowR.fl (S : ShowR G h F O s A f g) : LstR G h F A.fl A.fa A.fc A.fs := S.2.2.2.2.2.2.2.2.2.2.1
theorem ShowR.im (S : ShowR G h F O s A f g) : MapR h F A.im A.ns := S.2.2.2.2.2.2.2.2.2.2.2.1
theorem ShowR.tk (S : ShowR G h F O s A f g) : TK h F A.im A.ks := S.2.2.2.2.2.2.2.2.2.2.2.2.1
theorem ShowR.hm (S : ShowR G h F O s A f g) : Is h A.hm 32 12 := S.2.2.2.2.2.2.2.2.2.2.2.2.2.1
theorem ShowR.hv (S : ShowR G h F O s A f g) : ∀ c, c < 12 → F A.hm c = .int (f (6 + c)) := S.2.2.2.2.2.2.2.2.2.2.2.2.2.2.1
theorem ShowR.nc (S : ShowR G h F O s A f g) : u (f 0) = A.cs.length := S.2.2.2.2.2.2.2.2.2.2.2.2.2.2.2.1
theorem ShowR.nc2 (S : ShowR G h F O s A f g) : A.cs.length ≤ 12 := S.2.2.2.2.2.2.2.2.2.2.2.2.2.2.2.2.1
theorem ShowR.ni (S : ShowR G h F O s A f g) : u (f 1) = A.ns.length := S.2.2.2.2.2.2.2.2.2.2.2.2.2.2.2.2.2.1
theorem ShowR.ni2 (S : ShowR G h F O s A f g) : A.ns.length ≤ 75 := S.2.2.2.2.2.2.2.2.2.2.2.2.2.2.2.2.2.2.1
theorem ShowR.nf (S : ShowR G h F O s A f g) : A.fs.length = 12 := S.2.2.2.2.2.2.2.2.2.2.2.2.2.2.2.2.2.2.2.1
theorem ShowR.cue (S : ShowR G h F O s A f g) : ∀ k a, A.cs[k]? = some a → CueR h F (A.dl a) (A.tm a) f a k := S.2.2.2.2.2.2.2.2.2.2.2.2.2.2.2.2.2.2.2.2.1
theorem ShowR.ins (S : ShowR G h F O s A f g) : ∀ i p, A.ns[i]? = some p → InsR h F f i p := S.2.2.2.2.2.2.2.2.2.2.2.2.2.2.2.2.2.2.2.2.2.1
theorem ShowR.fad (S : ShowR G h F O s A f g) : ∀ c a, A.fs[c]? = some a → FadR h F g a c := S.2.2.2.2.2.2.2.2.2.2.2.2.2.2.2.2.2.2.2.2.2.2.1
theorem ShowR.d1 (S : ShowR G h F O s A f g) : A.cl ≠ A.fl := S.2.2.2.2.2.2.2.2.2.2.2.2.2.2.2.2.2.2.2.2.2.2.2.1
theorem ShowR.d2 (S : ShowR G h F O s A f g) : ∀ c, Is h A.ca 35 c → A.ca ≠ A.fa := S.2.2.2.2.2.2.2.2.2.2.2.2.2.2.2.2.2.2.2.2.2.2.2.2.1
theorem ShowR.d3 (S : ShowR G h F O s A f g) : A.cs.Nodup := S.2.2.2.2.2.2.2.2.2.2.2.2.2.2.2.2.2.2.2.2.2.2.2.2.2.1
theorem ShowR.d4 (S : ShowR G h F O s A f g) : A.fs.Nodup := S.2.2.2.2.2.2.2.2.2.2.2.2.2.2.2.2.2.2.2.2.2.2.2.2.2.2.1
theorem ShowR.d5 (S : ShowR G h F O s A f g) : ∀ a b, a ∈ A.cs → b ∈ A.cs → A.dl a ≠ A.tm b := S.2.2.2.2.2.2.2.2.2.2.2.2.2.2.2.2.2.2.2.2.2.2.2.2.2.2.2.1
theorem ShowR.d6 (S : ShowR G h F O s A f g) : ∀ a b, a ∈ A.cs → b ∈ A.cs → a ≠ b → A.dl a ≠ A.dl b ∧ A.tm a ≠ A.tm b := S.2.2.2.2.2.2.2.2.2.2.2.2.2.2.2.2.2.2.2.2.2.2.2.2.2.2.2.2.1
theorem ShowR.d7 (S : ShowR G h F O s A f g) : ∀ a, a ∈ A.cs → A.dl a ≠ A.hm ∧ A.tm a ≠ A.hm := S.2.2.2.2.2.2.2.2.2.2.2.2.2.2.2.2.2.2.2.2.2.2.2.2.2.2.2.2.2.1
theorem ShowR.own (S : ShowR G h F O s A f g) : ∀ b, SFp h F A s b → O b := S.2.2.2.2.2.2.2.2.2.2.2.2.2.2.2.2.2.2.2.2.2.2.2.2.2.2.2.2.2.2
end SHOWA
/-- cells that never change -/
def KIL (h : AH) (b : Nat) : Prop := Is h b 4 2 ∨ Is h b 7 2 ∨ Is h b 8 1
def OP (O : Nat → Prop) (h : AH) (b : Nat) : Prop := O b ∧ ¬ KIL h b
/-- the cost of a step -/
def Cst (c : Nat) (h h2 : AH) : Prop := h2.1 ≤ h.1 + c ∧ h2.2.1 ≤ h.2.1 + 4 * c
def NoP (_ : Nat) : Prop := False
section SHOW
variable {G : GG} {h h2 h3 : AH} {F F2 F3 : Nat → Nat → Value} {s c c2 : Nat} {A : SA} {f g : Nat → Int32} {O O2 P : Nat → Prop}
theorem Cst.refl : Cst 0 h h := ⟨Nat.le_refl _, Nat.le_refl _⟩
theorem Cst.trans (a : Cst c h h2) (b : Cst c2 h2 h3) : Cst (c + c2) h h3 := ⟨by have := a.1; have := b.1; omega, by have := a.2; have := b.2; omega⟩
theorem Cst.mono (a : Cst c h h2) (e : c ≤ c2) : Cst c2 h h2 := ⟨by have := a.1; omega, by have := a.2; omega⟩
theorem KIL.ext {b : Nat} (k : KIL h b) (e : Ext h h2) : KIL h2 b := k.imp (·.ext e) (·.imp (·.ext e) (·.ext e))
theorem Fr.opT (a : Fr (OP O h) h F h2 F2) (b : Fr (OP O h2) h2 F2 h3 F3) : Fr (OP O h) h F h3 F3 := a.trans b fun _ _ hp => ⟨hp.1, fun k => hp.2 (k.ext a.1)⟩
theorem Fr.op (a : Fr NoP h F h2 F2) : Fr P h F h2 F2 := a.mono fun _ _ hf => hf.elim
theorem Fr.opO (a : Fr (OP O h) h F h2 F2) (hO : ∀ b, b < h.1 → O b → O2 b) : Fr (OP O2 h) h F h2 F2 := a.mono fun b hb hp => ⟨hO b hb hp.1, hp.2⟩
theorem Fr.kil (a : Fr (OP O h) h F h2 F2) {b : Nat} (k : KIL h b) (j : Nat) : F2 b j = F b j := a.at (k.elim (·.lt) (·.elim (·.lt) (·.lt))) (fun hp => hp.2 k) j
theorem TldR.fr {t : Nat} {lev part : Int32} (T : TldR h F t lev part) (f : Fr P h F h2 F2) (hK : ∀ b, KIL h b → ¬ P b) : TldR h2 F2 t lev part := by
  have hk : KIL h t := T.2.2.elim (fun q => Or.inr (Or.inr q.2)) (fun q => Or.inr (Or.inl q.2.1))
  have hlt : t < h.1 := T.2.2.elim (fun q => q.2.lt) (fun q => q.2.1.lt)
  have e := f.at hlt (hK t hk)
  exact ⟨T.1, (e 0).trans T.2.1, T.2.2.imp (fun q => ⟨q.1, f.is q.2⟩) (fun q => ⟨q.1, f.is q.2.1, (e 1).trans q.2.2⟩)⟩
theorem FadR.fr {a c : Nat} (T : FadR h F g a c) (f : Fr P h F h2 F2) (hK : ¬ P a) : FadR h2 F2 g a c := by
  have e := f.at T.1.lt hK
  exact ⟨f.is T.1, (e 0).trans T.2.1, (e 1).trans T.2.2.1, (e 2).trans T.2.2.2.1, (e 3).trans T.2.2.2.2.1, (e 4).trans T.2.2.2.2.2⟩
theorem CueR.fr {a k dl tm : Nat} (T : CueR h F dl tm f a k) (fr : Fr P h F h2 F2) (h1 : ¬ P a) (h3 : ¬ P dl) (h4 : ¬ P tm) : CueR h2 F2 dl tm f a k := by
  obtain ⟨t1, t2, t3, t4, t5, t6, t7, t8, t9, t10, t11, t12⟩ := T
  have e := fr.at t1.lt h1
  have e2 := fr.at t9.lt h3
  have e3 := fr.at t10.lt h4
  exact ⟨fr.is t1, t2, (e 0).trans t3, (e 1).trans t4, (e 2).trans t5, (e 3).trans t6, (e 4).trans t7, (e 5).trans t8, fr.is t9, fr.is t10, fun q hq => ⟨(e2 q).trans (t11 q hq).1, (e3 q).trans (t11 q hq).2⟩, t12⟩
theorem Is.ext_uniq {a k l k2 l2 : Nat} (i : Is h a k l) (e : Ext h h2) (j : Is h2 a k2 l2) : Is h a k2 l2 := by
  obtain ⟨rfl, rfl⟩ := (i.ext e).uniq j
  exact i
theorem LF.back {a arr cap b : Nat} {xs : List Nat} (L : LstR G h F a arr cap xs) (e : Ext h h2) (hb : LF h2 a arr b) : LF h a arr b := hb.imp (fun q => q) (fun q => ⟨q.1, by
  obtain ⟨c, hc⟩ := q.2
  rcases L.2.2.2.2.2.2.1 with ⟨-, i⟩ | ⟨i, -⟩
  · exact ⟨_, i⟩
  · exact ⟨_, i.ext_uniq e hc⟩⟩)
theorem ShowR.fr (S : ShowR G h F O s A f g) (fr : Fr P h F h2 F2) (hP : ∀ b, SFp h F A s b → ¬ P b) (hK : ∀ b, KIL h b → ¬ P b) : ShowR G h2 F2 O s A f g := by
  have es := fr.at S.is.lt (hP s (Or.inl rfl))
  obtain ⟨m1, m2, m3, m4, m5⟩ := S.im.fr fr (fun b hb => hP b (Or.inr (Or.inr (Or.inr (Or.inr (Or.inl hb)))))) (fun q hq => hK q (Or.inl hq))
  have eh := fr.at S.hm.lt (hP _ (Or.inr (Or.inl rfl)))
  have hn : ∀ p, p ∈ A.ns → F2 p = F p := fun p hp => fr.2 p (MFp.lt S.im (Or.inr (Or.inl hp))) (hP p (Or.inr (Or.inr (Or.inr (Or.inr (Or.inl (Or.inr (Or.inl hp))))))))
  refine ⟨fr.is S.is, (es 0).trans S.f0, (es 1).trans S.f1, (es 2).trans S.f2, (es 3).trans S.f3, (es 4).trans S.f4, (es 5).trans S.f5, (es 6).trans S.f6, (es 7).trans S.f7, S.cl.kept fr (fun b hb => hP b (Or.inr (Or.inr (Or.inl hb)))), S.fl.kept fr (fun b hb => hP b (Or.inr (Or.inr (Or.inr (Or.inl hb))))), m1, m3 _ S.tk, fr.is S.hm, fun c hc => (eh c).trans (S.hv c hc), S.nc, S.nc2, S.ni, S.ni2, S.nf, fun k a hk => ?_, fun i p hi => ?_, fun c a hc => ?_, S.d1, fun c hc => ?_, S.d3, S.d4, S.d5, S.d6, S.d7, fun b hb => ?_⟩
  · have hm := List.mem_of_getElem? hk
    exact (S.cue k a hk).fr fr (hP _ (Or.inr (Or.inr (Or.inr (Or.inr (Or.inr (Or.inr ⟨a, hm, Or.inl rfl⟩))))))) (hP _ (Or.inr (Or.inr (Or.inr (Or.inr (Or.inr (Or.inr ⟨a, hm, Or.inr (Or.inl rfl)⟩))))))) (hP _ (Or.inr (Or.inr (Or.inr (Or.inr (Or.inr (Or.inr ⟨a, hm, Or.inr (Or.inr rfl)⟩)))))))
  · have hm := List.mem_of_getElem? hi
    obtain ⟨i1, i2, i3⟩ := S.ins i p hi
    have ek : kF F2 p = kF F p := kF_congr (congrFun (hn p hm) 0)
    have ev : vF F2 p = vF F p := vF_congr (congrFun (hn p hm) 2)
    unfold InsR
    rw [ek, ev]
    exact ⟨i1, i2, i3.fr fr hK⟩
  · exact (S.fad c a hc).fr fr (hP _ (Or.inr (Or.inr (Or.inr (Or.inr (Or.inr (Or.inl (List.mem_of_getElem? hc))))))))
  · rcases S.cl.2.2.2.2.2.2.1 with ⟨-, i⟩ | ⟨i, -⟩
    · exact S.d2 _ i
    · exact S.d2 _ (i.ext_uniq fr.1 hc)
  · refine S.own b ?_
    rcases hb with hb | hb | hb | hb | hb | hb | hb
    · exact Or.inl hb
    · exact Or.inr (Or.inl hb)
    · exact Or.inr (Or.inr (Or.inl (LF.back S.cl fr.1 hb)))
    · exact Or.inr (Or.inr (Or.inr (Or.inl (LF.back S.fl fr.1 hb))))
    · exact Or.inr (Or.inr (Or.inr (Or.inr (Or.inl ((m4 b).mp hb)))))
    · exact Or.inr (Or.inr (Or.inr (Or.inr (Or.inr (Or.inl hb)))))
    · exact Or.inr (Or.inr (Or.inr (Or.inr (Or.inr (Or.inr hb)))))
theorem ShowR.rd (S : ShowR G h F O s A f g) (fr : Fr NoP h F h2 F2) : ShowR G h2 F2 O s A f g := S.fr fr (fun _ _ q => q) (fun _ _ q => q)
/-- another show changes -/
theorem ShowR.ot (S : ShowR G h F O s A f g) (fr : Fr (OP O2 h) h F h2 F2) (hO : ∀ b, O b → ¬ O2 b) : ShowR G h2 F2 O s A f g := S.fr fr (fun b hb q => hO b (S.own b hb) q.1) (fun _ hk q => q.2 hk)
theorem SFp.lt {b : Nat} (S : ShowR G h F O s A f g) (hb : SFp h F A s b) : b < h.1 := by
  rcases hb with rfl | rfl | hb | hb | hb | hb | ⟨a, ha, hb⟩
  · exact S.is.lt
  · exact S.hm.lt
  · exact hb.elim (fun e => e ▸ S.cl.lt.1) (fun e => e.1 ▸ S.cl.lt.2)
  · exact hb.elim (fun e => e ▸ S.fl.lt.1) (fun e => e.1 ▸ S.fl.lt.2)
  · exact MFp.lt S.im hb
  · obtain ⟨k, hk⟩ := List.mem_iff_getElem?.mp hb
    exact (S.fad k b hk).1.lt
  · obtain ⟨k, hk⟩ := List.mem_iff_getElem?.mp ha
    have C := S.cue k a hk
    rcases hb with rfl | rfl | rfl
    · exact C.1.lt
    · exact C.2.2.2.2.2.2.2.2.1.lt
    · exact C.2.2.2.2.2.2.2.2.2.1.lt
theorem ShowR.mono (S : ShowR G h F O s A f g) (hO : ∀ b, b < h.1 → O b → O2 b) : ShowR G h F O2 s A f g := ⟨S.is, S.f0, S.f1, S.f2, S.f3, S.f4, S.f5, S.f6, S.f7, S.cl, S.fl, S.im, S.tk, S.hm, S.hv, S.nc, S.nc2, S.ni, S.ni2, S.nf, S.cue, S.ins, S.fad, S.d1, S.d2, S.d3, S.d4, S.d5, S.d6, S.d7, fun b hb => hO b (hb.lt S) (S.own b hb)⟩
end SHOW
