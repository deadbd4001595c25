/-! ===== the show when its cues change (plain) ===== -/
abbrev SA.wc (A : SA) (ca cc : Nat) (cs : List Nat) (dl tm : Nat → Nat) : SA := mkSA A.cl ca cc cs A.im A.ks A.ns A.hm A.fl A.fa A.fc A.fs dl tm
section SHOWCUES
variable {G : GG} {h h0 h2 h3 : AH} {F F0 F2 F3 : Nat → Nat → Value} {s c n k k2 i p q a ca2 cc2 dla tma : Nat} {A : SA} {f f2 g : Nat → Int32} {O O2 P : Nat → Prop} {cs2 : List Nat} {dl2 tm2 : Nat → Nat} {v : Int32}
theorem CueR.cg {dl tm : Nat} (C : CueR h F dl tm f a k) (e : ∀ r, r < 12 → f2 (18 + 12 * k2 + r) = f (18 + 12 * k + r)) : CueR h F dl tm f2 a k2 := by
  obtain ⟨t1, t2, t3, t4, t5, t6, t7, t8, t9, t10, t11, t12, t13⟩ := C
  have h0 := e 0 (by decide)
  simp only [Nat.add_zero] at h0
  refine ⟨t1, ?_, ?_, ?_, ?_, ?_, t7, t8, t9, t10, fun q hq => ?_, ?_, ?_⟩
  · rw [h0]; exact t2
  · rw [h0]; exact t3
  · rw [e 2 (by decide)]; exact t4
  · rw [e 3 (by decide)]; exact t5
  · rw [e 1 (by decide)]; exact t6
  · have e4 := e (4 + 2 * q) (by omega)
    have e5 := e (4 + 2 * q + 1) (by omega)
    have := t11 q hq
    rw [show 18 + 12 * k2 + 4 + 2 * q = 18 + 12 * k2 + (4 + 2 * q) by omega, show 18 + 12 * k2 + (4 + 2 * q) + 1 = 18 + 12 * k2 + (4 + 2 * q + 1) by omega, e4, e5]
    rw [show 18 + 12 * k + 4 + 2 * q = 18 + 12 * k + (4 + 2 * q) by omega, show 18 + 12 * k + (4 + 2 * q) + 1 = 18 + 12 * k + (4 + 2 * q + 1) by omega] at this
    exact this
  · rw [e 2 (by decide)]; exact t12
  · rw [e 3 (by decide)]; exact t13
theorem ShowR.cuesG (S : ShowR G h F O s A f g) (L2 : LstR G h2 F2 A.cl ca2 cc2 cs2) (fr : Fr (LF h A.cl A.ca) h F h2 F2) (hca : ca2 = A.ca ∨ h.1 ≤ ca2) (hf : ∀ j, 162 ≤ j ∨ 0 < j ∧ j < 18 → f2 j = f j) (hn : u (f2 0) = cs2.length) (hn2 : cs2.length ≤ 12)
    (hcue : ∀ k a, cs2[k]? = some a → CueR h2 F2 (dl2 a) (tm2 a) f2 a k) (d3 : cs2.Nodup) (d5 : ∀ a b, a ∈ cs2 → b ∈ cs2 → dl2 a ≠ tm2 b) (d6 : ∀ a b, a ∈ cs2 → b ∈ cs2 → a ≠ b → dl2 a ≠ dl2 b ∧ tm2 a ≠ tm2 b) (d7 : ∀ a, a ∈ cs2 → dl2 a ≠ A.hm ∧ tm2 a ≠ A.hm)
    (ho : ∀ b, O b → O2 b) (hfre : ∀ b, h.1 ≤ b → O2 b) (hown : ∀ a, a ∈ cs2 → O2 a ∧ O2 (dl2 a) ∧ O2 (tm2 a)) : ShowR G h2 F2 O2 s (A.wc ca2 cc2 cs2 dl2 tm2) f2 g := by
  have no : ∀ {b k l : Nat}, Is h b k l → k ≠ 11 → k ≠ 35 → ¬ LF h A.cl A.ca b := fun hi h1 h2 hb => by
    rcases hb with e | ⟨e, z, hz⟩
    · exact hi.ne S.cl.1 h1 e
    · exact hi.ne hz h2 e
  have es := fr.at S.is.lt (no S.is (by decide) (by decide))
  have eh := fr.at S.hm.lt (no S.hm (by decide) (by decide))
  obtain ⟨m1, m2, m3, m4, m5⟩ := S.im.fr fr (fun b hb hb2 => hb2.noM S.im S.cl hb) (fun q hq => no hq (by decide) (by decide))
  refine ⟨fr.is S.is, (es 0).trans S.f0, (es 1).trans S.f1, (es 2).trans S.f2, (es 3).trans S.f3, ?_, ?_, ?_, ?_, L2, S.fl.kept fr (fun b hb hb2 => ?_), m1, m3 _ S.tk, fr.is S.hm, fun c hc => ?_, hn, hn2, ?_, S.ni2, S.nf, hcue, fun i p hi => ?_, fun c a hc => ?_, S.d1, fun c hc => ?_, d3, S.d4, d5, d6, d7, fun b hb => ?_⟩
  · rw [es 4, hf 2 (by omega)]; exact S.f4
  · rw [es 5, hf 3 (by omega)]; exact S.f5
  · rw [es 6, hf 4 (by omega)]; exact S.f6
  · rw [es 7, hf 5 (by omega)]; exact S.f7
  · rcases hb with e | ⟨e, z, hz⟩
    · rcases hb2 with e2 | ⟨e2, z, hz⟩
      · exact S.d1 (e2.symm.trans e)
      · exact S.fl.1.ne hz (by decide) (e.symm.trans e2)
    · rcases hb2 with e2 | ⟨e2, z2, hz2⟩
      · exact hz.ne S.cl.1 (by decide) (e.symm.trans e2)
      · exact S.d2 _ hz2 (e2.symm.trans e)
  · rw [hf (6 + c) (by omega)]; exact (eh c).trans (S.hv c hc)
  · rw [hf 1 (by omega)]; exact S.ni
  · have hm := List.mem_of_getElem? hi
    obtain ⟨i1, i2, i3⟩ := S.ins i p hi
    have hpl : p < h.1 := MFp.lt S.im (Or.inr (Or.inl hm))
    have hnp : ¬ LF h A.cl A.ca p := fun hb => hb.noM S.im S.cl (Or.inr (Or.inl hm))
    have ek : kF F2 p = kF F p := kF_congr (fr.at hpl hnp 0)
    have ev : vF F2 p = vF F p := vF_congr (fr.at hpl hnp 2)
    unfold InsR
    rw [ek, ev, hf (162 + 4 * i) (by omega), hf (162 + 4 * i + 1) (by omega), hf (162 + 4 * i + 2) (by omega), hf (162 + 4 * i + 3) (by omega)]
    exact ⟨i1, i2, i3.fr fr fun b hb => by rcases hb with hb | hb | hb <;> exact no hb (by decide) (by decide)⟩
  · exact (S.fad c a hc).fr fr (no (S.fad c a hc).1 (by decide) (by decide))
  · intro e
    have hfa : A.fa < h.1 := S.fl.lt.2
    rcases hca with rfl | h9
    · rcases S.cl.2.2.2.2.2.2.1 with ⟨-, i⟩ | ⟨i, -⟩
      · exact S.d2 _ i e
      · exact S.d2 _ (i.ext_uniq fr.1 hc) e
    · have e : ca2 = A.fa := e
      omega
  · rcases hb with hb | hb | hb | hb | hb | hb | ⟨a, ha, hb⟩
    · exact ho _ (S.own b (Or.inl hb))
    · exact ho _ (S.own b (Or.inr (Or.inl hb)))
    · rcases hb with hb | ⟨hb, z, hz⟩
      · exact ho _ (S.own b (Or.inr (Or.inr (Or.inl (Or.inl hb)))))
      · rcases hca with h9 | h9
        · have hz : Is h2 ca2 35 z := hz
          rw [h9] at hz
          exact ho _ (S.own b (Or.inr (Or.inr (Or.inl (LF.back S.cl fr.1 (Or.inr ⟨hb.trans h9, z, hz⟩))))))
        · exact hfre _ (by rw [hb]; exact h9)
    · exact ho _ (S.own b (Or.inr (Or.inr (Or.inr (Or.inl (LF.back S.fl fr.1 hb))))))
    · exact ho _ (S.own b (Or.inr (Or.inr (Or.inr (Or.inr (Or.inl ((m4 b).mp hb)))))))
    · exact ho _ (S.own b (Or.inr (Or.inr (Or.inr (Or.inr (Or.inr (Or.inl hb)))))))
    · obtain ⟨o1, o2, o3⟩ := hown a ha
      rcases hb with rfl | rfl | rfl
      · exact o1
      · exact o2
      · exact o3
theorem ShowR.ownC (S : ShowR G h F O s A f g) (ha : a ∈ A.cs) : O a ∧ O (A.dl a) ∧ O (A.tm a) :=
  ⟨S.own _ (Or.inr (Or.inr (Or.inr (Or.inr (Or.inr (Or.inr ⟨a, ha, Or.inl rfl⟩)))))), S.own _ (Or.inr (Or.inr (Or.inr (Or.inr (Or.inr (Or.inr ⟨a, ha, Or.inr (Or.inl rfl)⟩)))))), S.own _ (Or.inr (Or.inr (Or.inr (Or.inr (Or.inr (Or.inr ⟨a, ha, Or.inr (Or.inr rfl)⟩))))))⟩
theorem ShowR.cueF (S : ShowR G h F O s A f g) (fr : Fr (LF h A.cl A.ca) h F h2 F2) (hk : A.cs[k]? = some a) : CueR h2 F2 (A.dl a) (A.tm a) f a k := by
  have no : ∀ {b k l : Nat}, Is h b k l → k ≠ 11 → k ≠ 35 → ¬ LF h A.cl A.ca b := fun hi h1 h2 hb => by
    rcases hb with e | ⟨e, z, hz⟩
    · exact hi.ne S.cl.1 h1 e
    · exact hi.ne hz h2 e
  have C := S.cue k a hk
  exact C.fr fr (no C.1 (by decide) (by decide)) (no C.2.2.2.2.2.2.2.2.1 (by decide) (by decide)) (no C.2.2.2.2.2.2.2.2.2.1 (by decide) (by decide))
/-- a cue goes -/
theorem ShowR.remC (S : ShowR G h F O s A f g) (hp : p < u (f 0)) (L2 : LstR G h F2 A.cl A.ca A.cc (A.cs.eraseIdx p)) (fr : Fr (LF h A.cl A.ca) h F h F2) : ShowR G h F2 (fun b => O b ∨ h.1 ≤ b) s (A.wc A.ca A.cc (A.cs.eraseIdx p) A.dl A.tm) (rcF f p) g := by
  have hnc := S.nc
  have hn12 := S.nc2
  have hsub : ∀ b, b ∈ A.cs.eraseIdx p → b ∈ A.cs := fun b hb => List.mem_of_mem_eraseIdx hb
  refine S.cuesG (O2 := fun b => O b ∨ h.1 ≤ b) L2 fr (Or.inl rfl) (fun j hj => rcF_hi (by omega) hj) (by rw [rcF_0 (by omega), List.length_eraseIdx]; rw [if_pos (by omega)]; omega) (by rw [List.length_eraseIdx]; split <;> omega) (fun k a hk => ?_) (S.d3.sublist (List.eraseIdx_sublist ..)) (fun a b ha hb => S.d5 a b (hsub a ha) (hsub b hb)) (fun a b ha hb => S.d6 a b (hsub a ha) (hsub b hb)) (fun a ha => S.d7 a (hsub a ha)) (fun b hb => Or.inl hb) (fun b hb => Or.inr hb) (fun a ha => ?_)
  · rw [List.getElem?_eraseIdx] at hk
    have hkl : k < u (f 0) - 1 := by
      have h9 : (A.cs.eraseIdx p).length = u (f 0) - 1 := by rw [List.length_eraseIdx, if_pos (by omega)]; omega
      have : k < (A.cs.eraseIdx p).length := by
        apply (List.getElem?_eq_some_iff (a := a)).mp ?_ |>.1
        rw [List.getElem?_eraseIdx]
        exact hk
      omega
    by_cases hlt : k < p
    · rw [if_pos hlt] at hk
      refine (S.cueF fr hk).cg fun r hr => ?_
      rw [rcF_at hr hkl, if_pos hlt]
    · rw [if_neg hlt] at hk
      refine (S.cueF fr hk).cg fun r hr => ?_
      rw [rcF_at hr hkl, if_neg hlt]
  · obtain ⟨o1, o2, o3⟩ := S.ownC (hsub a ha)
    exact ⟨Or.inl o1, Or.inl o2, Or.inl o3⟩
/-- a new cue -/
theorem ShowR.addC (S : ShowR G h F O s A f g) (hp : p ≤ u (f 0)) (h12 : u (f 0) < 12) (hv : 1 ≤ u v ∧ u v ≤ 99) (hO : ∀ b, O b → b ≠ a ∧ b ≠ dla ∧ b ≠ tma) (hO2 : ∀ b, O b → O2 b) (hO3 : ∀ b, h.1 ≤ b → O2 b) (ho : O2 a ∧ O2 dla ∧ O2 tma) (hdt : dla ≠ tma)
    (hI : Is h a 6 6) (hId : Is h dla 32 4) (hIt : Is h tma 32 4) (e0 : F a 0 = .int v) (e1 : F a 1 = .int 0) (e2 : F a 2 = .int 0) (e3 : F a 3 = .int (-1)) (e4 : F a 4 = .ref dla) (e5 : F a 5 = .ref tma) (e6 : ∀ q, q < 4 → F dla q = .int 0 ∧ F tma q = .int 0)
    (L2 : LstR G h2 F2 A.cl ca2 cc2 (A.cs.take p ++ a :: A.cs.drop p)) (fr : Fr (LF h A.cl A.ca) h F h2 F2) (hca : ca2 = A.ca ∨ h.1 ≤ ca2) :
    ShowR G h2 F2 O2 s (A.wc ca2 cc2 (A.cs.take p ++ a :: A.cs.drop p) (fun b => if b = a then dla else A.dl b) (fun b => if b = a then tma else A.tm b)) (adF f v p) g := by
  have hnc := S.nc
  have no : ∀ {b k l : Nat}, Is h b k l → k ≠ 11 → k ≠ 35 → ¬ LF h A.cl A.ca b := fun hi h1 h2 hb => by
    rcases hb with e | ⟨e, z, hz⟩
    · exact hi.ne S.cl.1 h1 e
    · exact hi.ne hz h2 e
  have ha := fr.at hI.lt (no hI (by decide) (by decide))
  have hd := fr.at hId.lt (no hId (by decide) (by decide))
  have ht := fr.at hIt.lt (no hIt (by decide) (by decide))
  have hmem : ∀ b, b ∈ A.cs.take p ++ a :: A.cs.drop p ↔ b = a ∨ b ∈ A.cs := fun b => by
    rw [List.mem_append, List.mem_cons]
    constructor
    · rintro (h | h | h)
      · exact Or.inr (List.mem_of_mem_take h)
      · exact Or.inl h
      · exact Or.inr (List.mem_of_mem_drop h)
    · rintro (h | h)
      · exact Or.inr (Or.inl h)
      · rw [← List.take_append_drop p A.cs, List.mem_append] at h
        exact h.imp (fun x => x) (fun x => Or.inr x)
  have hna : a ∉ A.cs := fun h => (hO a (S.ownC h).1).1 rfl
  have hne : ∀ b, b ∈ A.cs → b ≠ a := fun b hb e => hna (e ▸ hb)
  have hlen : (A.cs.take p ++ a :: A.cs.drop p).length = u (f 0) + 1 := by
    rw [List.length_append, List.length_take, List.length_cons, List.length_drop]
    omega
  refine S.cuesG L2 fr hca (fun j hj => adF_hi hp h12 hj) (by rw [adF_0 h12, hlen]) (by omega) (fun k b hk => ?_) ?_ (fun x y hx hy => ?_) (fun x y hx hy hxy => ?_) (fun x hx => ?_) hO2 hO3 (fun x hx => ?_)
  · have hkl : k < u (f 0) + 1 := by rw [← hlen]; exact (List.getElem?_eq_some_iff.mp hk).1
    have htl : (A.cs.take p).length = p := by rw [List.length_take]; omega
    by_cases hlt : k < p
    · rw [List.getElem?_append_left (by omega), List.getElem?_take_of_lt hlt] at hk
      have := hne b (List.mem_of_getElem? hk)
      rw [if_neg this, if_neg this]
      refine (S.cueF fr hk).cg fun r hr => ?_
      rw [adF_at h12 hr (by omega), if_pos hlt]
    · rw [List.getElem?_append_right (by omega), htl] at hk
      by_cases he : k = p
      · subst he
        rw [Nat.sub_self] at hk
        cases hk
        rw [if_pos rfl, if_pos rfl]
        have at9 : ∀ r, r < 12 → adF f v k (18 + 12 * k + r) = if r = 0 then v else if r = 1 then -1 else 0 := fun r hr => by
          rw [adF_at h12 hr (by omega), if_neg (by omega), if_pos rfl]
        have a0 := at9 0 (by decide)
        simp only [Nat.add_zero] at a0
        refine ⟨fr.is hI, by rw [a0]; exact hv, by rw [a0]; exact (ha 0).trans e0, by rw [at9 2 (by decide)]; exact (ha 1).trans e1, by rw [at9 3 (by decide)]; exact (ha 2).trans e2, by rw [at9 1 (by decide)]; exact (ha 3).trans e3, (ha 4).trans e4, (ha 5).trans e5, fr.is hId, fr.is hIt, fun q hq => ?_, Or.inl (by rw [at9 2 (by decide)]; rfl), Or.inl (by rw [at9 3 (by decide)]; rfl)⟩
        rw [show 18 + 12 * k + 4 + 2 * q = 18 + 12 * k + (4 + 2 * q) by omega, at9 (4 + 2 * q) (by omega), show 18 + 12 * k + (4 + 2 * q) + 1 = 18 + 12 * k + (4 + 2 * q + 1) by omega, at9 (4 + 2 * q + 1) (by omega), if_neg (by omega), if_neg (by omega), if_neg (by omega), if_neg (by omega)]
        exact ⟨(hd q).trans (e6 q hq).1, (ht q).trans (e6 q hq).2⟩
      · obtain ⟨j, rfl⟩ : ∃ j, k = p + 1 + j := ⟨k - p - 1, by omega⟩
        rw [show p + 1 + j - p = j + 1 by omega, List.getElem?_cons_succ, List.getElem?_drop] at hk
        have := hne b (List.mem_of_getElem? hk)
        rw [if_neg this, if_neg this]
        refine (S.cueF fr hk).cg fun r hr => ?_
        rw [adF_at h12 hr (by omega), if_neg (by omega), if_neg (by omega)]
        congr 1
        omega
  · rw [List.nodup_append]
    have hd3 := S.d3
    rw [← List.take_append_drop p A.cs, List.nodup_append] at hd3
    refine ⟨hd3.1, List.nodup_cons.mpr ⟨fun h => hna (List.mem_of_mem_drop h), hd3.2.1⟩, fun x hx y hy => ?_⟩
    rcases List.mem_cons.mp hy with rfl | hy
    · exact hne x (List.mem_of_mem_take hx)
    · exact hd3.2.2 x hx y hy
  · have own := fun b hb => S.ownC (a := b) hb
    rcases (hmem x).mp hx with rfl | hx9 <;> rcases (hmem y).mp hy with rfl | hy9
    · rw [if_pos rfl, if_pos rfl]; exact hdt
    · rw [if_pos rfl, if_neg (hne y hy9)]; exact Ne.symm (hO _ (own y hy9).2.2).2.1
    · rw [if_neg (hne x hx9), if_pos rfl]; exact (hO _ (own x hx9).2.1).2.2
    · rw [if_neg (hne x hx9), if_neg (hne y hy9)]; exact S.d5 x y hx9 hy9
  · have own := fun b hb => S.ownC (a := b) hb
    rcases (hmem x).mp hx with rfl | hx9 <;> rcases (hmem y).mp hy with rfl | hy9
    · exact absurd rfl hxy
    · rw [if_pos rfl, if_neg (hne y hy9), if_pos rfl, if_neg (hne y hy9)]; exact ⟨Ne.symm (hO _ (own y hy9).2.1).2.1, Ne.symm (hO _ (own y hy9).2.2).2.2⟩
    · rw [if_neg (hne x hx9), if_pos rfl, if_neg (hne x hx9), if_pos rfl]; exact ⟨(hO _ (own x hx9).2.1).2.1, (hO _ (own x hx9).2.2).2.2⟩
    · rw [if_neg (hne x hx9), if_neg (hne y hy9), if_neg (hne x hx9), if_neg (hne y hy9)]; exact S.d6 x y hx9 hy9 hxy
  · have hmO := hO A.hm (S.own _ (Or.inr (Or.inl rfl)))
    rcases (hmem x).mp hx with rfl | hx
    · rw [if_pos rfl, if_pos rfl]; exact ⟨Ne.symm hmO.2.1, Ne.symm hmO.2.2⟩
    · rw [if_neg (hne x hx), if_neg (hne x hx)]; exact S.d7 x hx
  · rcases (hmem x).mp hx with rfl | hx
    · rw [if_pos rfl, if_pos rfl]; exact ho
    · rw [if_neg (hne x hx), if_neg (hne x hx)]
      obtain ⟨o1, o2, o3⟩ := S.ownC hx
      exact ⟨hO2 _ o1, hO2 _ o2, hO2 _ o3⟩
end SHOWCUES
