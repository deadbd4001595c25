/-! ===== the show when numbers change in place (plain) ===== -/
section SHOWSET
variable {G : GG} {h h2 : AH} {F F2 : Nat → Nat → Value} {s c n k i p q a b j : Nat} {A : SA} {f f2 g g2 : Nat → Int32} {O O2 P : Nat → Prop} {v : Int32}
/-- kinds of the cells that are written in place -/
def PK (h : AH) (b : Nat) : Prop := ∃ k l, Is h b k l ∧ (k = 1 ∨ k = 32 ∨ k = 2 ∨ k = 6)
theorem PK.ne {k l : Nat} (hp : PK h b) (hi : Is h b k l) (hk : k ≠ 1 ∧ k ≠ 32 ∧ k ≠ 2 ∧ k ≠ 6) : False := by
  obtain ⟨k2, l2, i2, h2⟩ := hp
  have := (hi.uniq i2).1
  omega
theorem ShowR.inpl (S : ShowR G h F O s A f g) (fr : Fr P h F h F2) (hP : ∀ b, P b → PK h b) (s0 : ∀ j, j < 4 → F2 s j = F s j) (s4 : F2 s 4 = .int (f2 2)) (s5 : F2 s 5 = .int (f2 3)) (s6 : F2 s 6 = .int (f2 4)) (s7 : F2 s 7 = .int (f2 5)) (hv : ∀ c, c < 12 → F2 A.hm c = .int (f2 (6 + c))) (h0 : f2 0 = f 0) (h1 : f2 1 = f 1)
    (hr : ∀ j, 162 ≤ j → j < 162 + 4 * u (f 1) → f2 j = f j) (hcue : ∀ k a, A.cs[k]? = some a → CueR h F2 (A.dl a) (A.tm a) f2 a k) (hfad : ∀ c a, A.fs[c]? = some a → FadR h F2 g2 a c) : ShowR G h F2 O s A f2 g2 := by
  obtain ⟨m1, m2, m3, m4, m5⟩ := S.im.fr fr (fun b hb hb2 => by
    rcases MFp.kd S.im hb with e | (e | e) | ⟨l, e⟩ | e | e | e
    · exact (hP b hb2).ne e (by decide)
    · exact (hP b hb2).ne e (by decide)
    · exact (hP b hb2).ne e (by decide)
    · exact (hP b hb2).ne e (by decide)
    · exact (hP b hb2).ne e (by decide)
    · exact (hP b hb2).ne e (by decide)
    · exact (hP b hb2).ne e (by decide)) (fun q hq hb2 => (hP q hb2).ne hq (by decide))
  have hL : ∀ {x arr cap : Nat} {xs : List Nat}, LstR G h F x arr cap xs → LstR G h F2 x arr cap xs := fun L => L.kept fr (fun b hb hb2 => by
    rcases hb with e | ⟨e, z, hz⟩
    · exact (hP b hb2).ne (e ▸ L.1) (by decide)
    · exact (hP b hb2).ne (e ▸ hz) (by decide))
  refine ⟨S.is, (s0 0 (by decide)).trans S.f0, (s0 1 (by decide)).trans S.f1, (s0 2 (by decide)).trans S.f2, (s0 3 (by decide)).trans S.f3, s4, s5, s6, s7, hL S.cl, hL S.fl, m1, m3 _ S.tk, S.hm, hv, by rw [h0]; exact S.nc, S.nc2, by rw [h1]; exact S.ni, S.ni2, S.nf, hcue, fun i p hi => ?_, hfad, S.d1, S.d2, S.d3, S.d4, S.d5, S.d6, S.d7, fun b hb => S.own b ?_⟩
  · have hm := List.mem_of_getElem? hi
    have hil : i < u (f 1) := by rw [S.ni]; exact (List.getElem?_eq_some_iff.mp hi).1
    obtain ⟨i1, i2, i3⟩ := S.ins i p hi
    have hpl : p < h.1 := MFp.lt S.im (Or.inr (Or.inl hm))
    have hnp : ¬ P p := fun hb => by
      rcases (S.im.2.2.2.2.2.2.2.2.1 p hm).1 with e | e <;> exact (hP p hb).ne e (by decide)
    have ek : kF F2 p = kF F p := kF_congr (fr.at hpl hnp 0)
    have ev : vF F2 p = vF F p := vF_congr (fr.at hpl hnp 2)
    unfold InsR
    rw [ek, ev, hr (162 + 4 * i) (by omega) (by omega), hr (162 + 4 * i + 1) (by omega) (by omega), hr (162 + 4 * i + 2) (by omega) (by omega), hr (162 + 4 * i + 3) (by omega) (by omega)]
    exact ⟨i1, i2, i3.fr fr fun b hb hp => by rcases hb with hb | hb | hb <;> exact (hP b hp).ne hb (by decide)⟩
  · rcases hb with hb | hb | hb | hb | hb | hb | hb
    · exact Or.inl hb
    · exact Or.inr (Or.inl hb)
    · exact Or.inr (Or.inr (Or.inl hb))
    · exact Or.inr (Or.inr (Or.inr (Or.inl hb)))
    · exact Or.inr (Or.inr (Or.inr (Or.inr (Or.inl ((m4 b).mp hb)))))
    · exact Or.inr (Or.inr (Or.inr (Or.inr (Or.inr (Or.inl hb)))))
    · exact Or.inr (Or.inr (Or.inr (Or.inr (Or.inr (Or.inr hb)))))
/-- the same state by other functions -/
theorem ShowR.cg (S : ShowR G h F O s A f g) (e : ∀ j, j < 162 → f2 j = f j) (hr : ∀ j, 162 ≤ j → j < 162 + 4 * u (f 1) → f2 j = f j) (eg : ∀ j, j < 60 → g2 j = g j) : ShowR G h F O s A f2 g2 :=
  S.inpl (P := NoP) Fr.refl (fun _ hf => hf.elim) (fun _ _ => rfl) (by rw [e 2 (by decide)]; exact S.f4) (by rw [e 3 (by decide)]; exact S.f5) (by rw [e 4 (by decide)]; exact S.f6) (by rw [e 5 (by decide)]; exact S.f7) (fun c hc => by rw [e (6 + c) (by omega)]; exact S.hv c hc) (e 0 (by decide)) (e 1 (by decide)) hr
    (fun k a hk => by
      have hk12 : k < 12 := by have := (List.getElem?_eq_some_iff.mp hk).1; have := S.nc2; omega
      exact (S.cue k a hk).cg fun r hr => e _ (by omega))
    (fun c a hc => by
      have hc12 : c < 12 := by have := (List.getElem?_eq_some_iff.mp hc).1; have := S.nf; omega
      have F9 := S.fad c a hc
      unfold FadR
      rw [eg (5 * c) (by omega), eg (5 * c + 1) (by omega), eg (5 * c + 2) (by omega), eg (5 * c + 3) (by omega), eg (5 * c + 4) (by omega)]
      exact F9)
/-- kinds of the show's own cells -/
theorem ShowR.pkS (S : ShowR G h F O s A f g) : PK h s := ⟨1, 8, S.is, Or.inl rfl⟩
theorem ShowR.pkH (S : ShowR G h F O s A f g) : PK h A.hm := ⟨32, 12, S.hm, Or.inr (Or.inl rfl)⟩
theorem ShowR.fa_ne (S : ShowR G h F O s A f g) (hc : A.fs[c]? = some a) : a ≠ s ∧ a ≠ A.hm ∧ ∀ x, x ∈ A.cs → a ≠ x ∧ a ≠ A.dl x ∧ a ≠ A.tm x := by
  have i := (S.fad c a hc).1
  refine ⟨i.ne S.is (by decide), i.ne S.hm (by decide), fun x hx => ?_⟩
  obtain ⟨k, hk⟩ := List.mem_iff_getElem?.mp hx
  have C := S.cue k x hk
  exact ⟨i.ne C.1 (by decide), i.ne C.2.2.2.2.2.2.2.2.1 (by decide), i.ne C.2.2.2.2.2.2.2.2.2.1 (by decide)⟩
/-- a fade changes -/
theorem ShowR.setFd (S : ShowR G h F O s A f g) (hc : A.fs[c]? = some a) (fr : Fr (· = a) h F h F2) (hn : FadR h F2 g2 a c) (hg : ∀ c2 j, c2 < 12 → c2 ≠ c → j < 5 → g2 (5 * c2 + j) = g (5 * c2 + j)) : ShowR G h F2 O s A f g2 := by
  obtain ⟨n1, n2, n3⟩ := S.fa_ne hc
  have es := fr.at S.is.lt (Ne.symm n1)
  have eh := fr.at S.hm.lt (Ne.symm n2)
  refine S.inpl fr (fun b hb => by subst hb; exact ⟨2, 5, hn.1, Or.inr (Or.inr (Or.inl rfl))⟩) (fun j _ => es j) ((es 4).trans S.f4) ((es 5).trans S.f5) ((es 6).trans S.f6) ((es 7).trans S.f7) (fun c hc => (eh c).trans (S.hv c hc)) rfl rfl (fun _ _ _ => rfl) (fun k x hk => ?_) (fun c2 x hx => ?_)
  · obtain ⟨m1, m2, m3⟩ := n3 x (List.mem_of_getElem? hk)
    exact (S.cue k x hk).fr fr (Ne.symm m1) (Ne.symm m2) (Ne.symm m3)
  · by_cases e : c2 = c
    · subst e
      rw [hc] at hx
      cases hx
      exact hn
    · have hc12 : c2 < 12 := by have := (List.getElem?_eq_some_iff.mp hx).1; have := S.nf; omega
      have hxa : x ≠ a := fun e2 => e (nd_ix S.d4 (e2 ▸ hx) hc)
      have F9 := (S.fad c2 x hx).fr fr hxa
      unfold FadR
      have h0 := hg c2 0 hc12 e (by decide)
      simp only [Nat.add_zero] at h0
      rw [h0, hg c2 1 hc12 e (by decide), hg c2 2 hc12 e (by decide), hg c2 3 hc12 e (by decide), hg c2 4 hc12 e (by decide)]
      exact F9
/-- the show's own numbers change -/
theorem ShowR.setS (S : ShowR G h F O s A f g) (fr : Fr (· = s) h F h F2) (s0 : ∀ j, j < 4 → F2 s j = F s j) (s4 : F2 s 4 = .int (f2 2)) (s5 : F2 s 5 = .int (f2 3)) (s6 : F2 s 6 = .int (f2 4)) (s7 : F2 s 7 = .int (f2 5)) (e : ∀ j, j < 2 ∨ 6 ≤ j ∧ j < 162 + 4 * u (f 1) → f2 j = f j) : ShowR G h F2 O s A f2 g := by
  have h1 := Nat.zero_le (u (f 1))
  refine S.inpl fr (fun b hb => by subst hb; exact S.pkS) s0 s4 s5 s6 s7 (fun c hc => ?_) (e 0 (by omega)) (e 1 (by omega)) (fun j h1 h2 => e j (by omega)) (fun k a hk => ?_) (fun c a hc => ?_)
  · rw [e (6 + c) (by omega)]
    exact (fr.at S.hm.lt (S.hm.ne S.is (by decide)) c).trans (S.hv c hc)
  · have hk12 : k < 12 := by have := (List.getElem?_eq_some_iff.mp hk).1; have := S.nc2; omega
    have C := S.cue k a hk
    exact (C.fr fr (C.1.ne S.is (by decide)) (C.2.2.2.2.2.2.2.2.1.ne S.is (by decide)) (C.2.2.2.2.2.2.2.2.2.1.ne S.is (by decide))).cg fun r hr => e _ (by omega)
  · exact (S.fad c a hc).fr fr (S.fa_ne hc).1
/-- a home changes -/
theorem ShowR.setH (S : ShowR G h F O s A f g) (hc : c < 12) : ShowR G h (updF F A.hm c (.int v)) O s A (upd f (6 + c) v) g := by
  have fr : Fr (· = A.hm) h F h (updF F A.hm c (.int v)) := Fr.upd rfl
  have es := fr.at S.is.lt (S.is.ne S.hm (by decide))
  refine S.inpl fr (fun b hb => by subst hb; exact S.pkH) (fun j _ => es j) ?_ ?_ ?_ ?_ (fun c2 hc2 => ?_) (upd_o _ _ (by omega)) (upd_o _ _ (by omega)) (fun j h1 h2 => upd_o _ _ (by omega)) (fun k a hk => ?_) (fun c2 a hc2 => ?_)
  · rw [upd_o _ _ (by omega)]; exact (es 4).trans S.f4
  · rw [upd_o _ _ (by omega)]; exact (es 5).trans S.f5
  · rw [upd_o _ _ (by omega)]; exact (es 6).trans S.f6
  · rw [upd_o _ _ (by omega)]; exact (es 7).trans S.f7
  · by_cases e : c2 = c
    · subst e
      rw [updF_self, upd_s]
    · rw [upd_o _ _ (by omega)]
      exact updF_i e (S.hv c2 hc2)
  · have hk12 : k < 12 := by have := (List.getElem?_eq_some_iff.mp hk).1; have := S.nc2; omega
    have C := S.cue k a hk
    obtain ⟨d1, d2⟩ := S.d7 a (List.mem_of_getElem? hk)
    exact (C.fr fr (C.1.ne S.hm (by decide)) d1 d2).cg fun r hr => upd_o _ _ (by omega)
  · exact (S.fad c2 a hc2).fr fr (S.fa_ne hc2).2.1
/-- a cue's field changes: 1 block, 2 protected, 3 follow -/
theorem ShowR.setC (S : ShowR G h F O s A f g) (hk : A.cs[k]? = some a) (hj : j = 1 ∧ i = 2 ∧ (v = 0 ∨ v = 1) ∨ j = 2 ∧ i = 3 ∧ (v = 0 ∨ v = 1) ∨ j = 3 ∧ i = 1) : ShowR G h (updF F a j (.int v)) O s A (upd f (18 + 12 * k + i) v) g := by
  have C0 := S.cue k a hk
  have fr : Fr (· = a) h F h (updF F a j (.int v)) := Fr.upd rfl
  have hk12 : k < 12 := by have := (List.getElem?_eq_some_iff.mp hk).1; have := S.nc2; omega
  have es := fr.at S.is.lt (S.is.ne C0.1 (by decide))
  have eh := fr.at S.hm.lt (S.hm.ne C0.1 (by decide))
  have hi3 : 1 ≤ i ∧ i ≤ 3 := by omega
  refine S.inpl fr (fun b hb => by subst hb; exact ⟨6, 6, C0.1, Or.inr (Or.inr (Or.inr rfl))⟩) (fun j _ => es j) ?_ ?_ ?_ ?_ (fun c2 hc2 => ?_) (upd_o _ _ (by omega)) (upd_o _ _ (by omega)) (fun j h1 h2 => upd_o _ _ (by omega)) (fun k2 x hk2 => ?_) (fun c2 x hc2 => ?_)
  · rw [upd_o _ _ (by omega)]; exact (es 4).trans S.f4
  · rw [upd_o _ _ (by omega)]; exact (es 5).trans S.f5
  · rw [upd_o _ _ (by omega)]; exact (es 6).trans S.f6
  · rw [upd_o _ _ (by omega)]; exact (es 7).trans S.f7
  · rw [upd_o _ _ (by omega)]; exact (eh c2).trans (S.hv c2 hc2)
  · have hk212 : k2 < 12 := by have := (List.getElem?_eq_some_iff.mp hk2).1; have := S.nc2; omega
    have C := S.cue k2 x hk2
    by_cases e : k2 = k
    · subst e
      rw [hk] at hk2
      cases hk2
      obtain ⟨t1, t2, t3, t4, t5, t6, t7, t8, t9, t10, t11, t12, t13⟩ := C
      have ed := fr.at t9.lt (t9.ne t1 (by decide))
      have et := fr.at t10.lt (t10.ne t1 (by decide))
      have ea : ∀ j2, j2 ≠ j → updF F a j (.int v) a j2 = F a j2 := fun j2 h => updF_i h rfl
      have uo : ∀ r, r ≠ i → upd f (18 + 12 * k2 + i) v (18 + 12 * k2 + r) = f (18 + 12 * k2 + r) := fun r hr => upd_o _ _ (by omega)
      have u0 := uo 0 (by omega)
      simp only [Nat.add_zero] at u0
      have us : upd f (18 + 12 * k2 + i) v (18 + 12 * k2 + i) = v := upd_s _ _ _
      refine ⟨t1, by rw [u0]; exact t2, by rw [u0]; exact (ea 0 (by omega)).trans t3, ?_, ?_, ?_, (ea 4 (by omega)).trans t7, (ea 5 (by omega)).trans t8, t9, t10, fun q hq => ?_, ?_, ?_⟩
      · rcases hj with ⟨rfl, rfl, -⟩ | ⟨rfl, rfl, -⟩ | ⟨rfl, rfl⟩
        · rw [us]; exact updF_self _ _ _ _
        · rw [uo 2 (by decide)]; exact (ea 1 (by decide)).trans t4
        · rw [uo 2 (by decide)]; exact (ea 1 (by decide)).trans t4
      · rcases hj with ⟨rfl, rfl, -⟩ | ⟨rfl, rfl, -⟩ | ⟨rfl, rfl⟩
        · rw [uo 3 (by decide)]; exact (ea 2 (by decide)).trans t5
        · rw [us]; exact updF_self _ _ _ _
        · rw [uo 3 (by decide)]; exact (ea 2 (by decide)).trans t5
      · rcases hj with ⟨rfl, rfl, -⟩ | ⟨rfl, rfl, -⟩ | ⟨rfl, rfl⟩
        · rw [uo 1 (by decide)]; exact (ea 3 (by decide)).trans t6
        · rw [uo 1 (by decide)]; exact (ea 3 (by decide)).trans t6
        · rw [us]; exact updF_self _ _ _ _
      · rw [upd_o _ _ (by omega), upd_o _ _ (by omega)]
        exact ⟨(ed q).trans (t11 q hq).1, (et q).trans (t11 q hq).2⟩
      · rcases hj with ⟨rfl, rfl, h⟩ | ⟨rfl, rfl, -⟩ | ⟨rfl, rfl⟩
        · rw [us]; exact h
        · rw [uo 2 (by decide)]; exact t12
        · rw [uo 2 (by decide)]; exact t12
      · rcases hj with ⟨rfl, rfl, -⟩ | ⟨rfl, rfl, h⟩ | ⟨rfl, rfl⟩
        · rw [uo 3 (by decide)]; exact t13
        · rw [us]; exact h
        · rw [uo 3 (by decide)]; exact t13
    · have hxa : x ≠ a := fun e2 => e (nd_ix S.d3 (e2 ▸ hk2) hk)
      exact (C.fr fr hxa (C.2.2.2.2.2.2.2.2.1.ne C0.1 (by decide)) (C.2.2.2.2.2.2.2.2.2.1.ne C0.1 (by decide))).cg fun r hr => upd_o _ _ (by omega)
  · exact (S.fad c2 x hc2).fr fr ((S.fad c2 x hc2).1.ne C0.1 (by decide))
/-- a cell of a cue's delays or times changes -/
theorem ShowR.setP (S : ShowR G h F O s A f g) (hk : A.cs[k]? = some a) (hq : q < 4) (b9 : Bool) : ShowR G h (updF F (if b9 then A.dl a else A.tm a) q (.int v)) O s A (upd f (18 + 12 * k + 4 + 2 * q + (if b9 then 0 else 1)) v) g := by
  have C0 := S.cue k a hk
  have hx9 : ∃ x9, (if b9 then A.dl a else A.tm a) = x9 ∧ Is h x9 32 4 := ⟨_, rfl, by cases b9; exact C0.2.2.2.2.2.2.2.2.2.1; exact C0.2.2.2.2.2.2.2.2.1⟩
  obtain ⟨x9, ex, hx⟩ := hx9
  have ham := List.mem_of_getElem? hk
  rw [ex]
  have fr : Fr (· = x9) h F h (updF F x9 q (.int v)) := Fr.upd rfl
  have hk12 : k < 12 := by have := (List.getElem?_eq_some_iff.mp hk).1; have := S.nc2; omega
  have hb01 : (if b9 then 0 else 1 : Nat) ≤ 1 := by cases b9 <;> decide
  have es := fr.at S.is.lt (S.is.ne hx (by decide))
  have hmx : A.hm ≠ x9 := by
    obtain ⟨d1, d2⟩ := S.d7 a ham
    rw [← ex]
    cases b9
    · exact Ne.symm d2
    · exact Ne.symm d1
  have eh := fr.at S.hm.lt hmx
  refine S.inpl fr (fun b hb => by subst hb; exact ⟨32, 4, hx, Or.inr (Or.inl rfl)⟩) (fun j _ => es j) ?_ ?_ ?_ ?_ (fun c2 hc2 => ?_) (upd_o _ _ (by omega)) (upd_o _ _ (by omega)) (fun j h1 h2 => upd_o _ _ (by omega)) (fun k2 x hk2 => ?_) (fun c2 x hc2 => ?_)
  · rw [upd_o _ _ (by omega)]; exact (es 4).trans S.f4
  · rw [upd_o _ _ (by omega)]; exact (es 5).trans S.f5
  · rw [upd_o _ _ (by omega)]; exact (es 6).trans S.f6
  · rw [upd_o _ _ (by omega)]; exact (es 7).trans S.f7
  · rw [upd_o _ _ (by omega)]; exact (eh c2).trans (S.hv c2 hc2)
  · have hk212 : k2 < 12 := by have := (List.getElem?_eq_some_iff.mp hk2).1; have := S.nc2; omega
    have C := S.cue k2 x hk2
    have hxm := List.mem_of_getElem? hk2
    by_cases e : k2 = k
    · subst e
      rw [hk] at hk2
      cases hk2
      obtain ⟨t1, t2, t3, t4, t5, t6, t7, t8, t9, t10, t11, t12, t13⟩ := C
      have ea := fr.at t1.lt (t1.ne hx (by decide))
      have uo : ∀ r, r < 4 → upd f (18 + 12 * k2 + 4 + 2 * q + (if b9 then 0 else 1)) v (18 + 12 * k2 + r) = f (18 + 12 * k2 + r) := fun r hr => upd_o _ _ (by omega)
      have u0 := uo 0 (by omega)
      simp only [Nat.add_zero] at u0
      have hdt := S.d5 a a ham ham
      refine ⟨t1, by rw [u0]; exact t2, by rw [u0]; exact (ea 0).trans t3, by rw [uo 2 (by decide)]; exact (ea 1).trans t4, by rw [uo 3 (by decide)]; exact (ea 2).trans t5, by rw [uo 1 (by decide)]; exact (ea 3).trans t6, (ea 4).trans t7, (ea 5).trans t8, t9, t10, fun q2 hq2 => ?_, by rw [uo 2 (by decide)]; exact t12, by rw [uo 3 (by decide)]; exact t13⟩
      cases b9 with
      | true =>
        have ex : A.dl a = x9 := ex
        subst ex
        simp only [if_true, Nat.add_zero]
        constructor
        · by_cases e : q2 = q
          · subst e
            rw [updF_self, upd_s]
          · rw [upd_o _ _ (by omega)]
            exact updF_i e (t11 q2 hq2).1
        · rw [upd_o _ _ (by omega)]
          exact updF_a (Ne.symm hdt) (t11 q2 hq2).2
      | false =>
        have ex : A.tm a = x9 := ex
        subst ex
        simp only [Bool.false_eq_true, if_false]
        constructor
        · rw [upd_o _ _ (by omega)]
          exact updF_a hdt (t11 q2 hq2).1
        · by_cases e : q2 = q
          · subst e
            rw [updF_self, upd_s]
          · rw [upd_o _ _ (by omega)]
            exact updF_i e (t11 q2 hq2).2
    · have hxa : x ≠ a := fun e2 => e (nd_ix S.d3 (e2 ▸ hk2) hk)
      obtain ⟨d1, d2⟩ := S.d6 x a hxm ham hxa
      refine (C.fr fr (C.1.ne hx (by decide)) ?_ ?_).cg fun r hr => upd_o _ _ (by omega)
      · rw [← ex]
        cases b9
        · exact S.d5 x a hxm ham
        · exact d1
      · rw [← ex]
        cases b9
        · exact d2
        · exact Ne.symm (S.d5 a x ham hxm)
  · exact (S.fad c2 x hc2).fr fr ((S.fad c2 x hc2).1.ne hx (by decide))
end SHOWSET
