/-! ===== what a copy does to a show (plain) ===== -/
abbrev SA.wf (A : SA) (fs : List Nat) : SA := mkSA A.cl A.ca A.cc A.cs A.im A.ks A.ns A.hm A.fl A.fa A.fc fs A.dl A.tm
section SHCOPY
variable {G : GG} {h h2 h3 : AH} {F F2 F3 : Nat → Nat → Value} {s c n k i p q k2 cc ss : Nat} {A : SA} {f f2 g g2 : Nat → Int32} {O O2 P : Nat → Prop} {ns2 fs2 : List Nat} {lev part : Int32}
/-- the map changes, and cells of others -/
theorem ShowR.mapG (S : ShowR G h F O s A f g) (M2 : MapR h2 F2 A.im ns2) (t2 : TK h2 F2 A.im k2) (fr : Fr P h F h2 F2) (hPP : ∀ b, P b → MFp F A.im A.ns b ∨ ¬ SFp h F A s b) (hPK : ∀ b, KIL h b → ¬ P b) (hO : ∀ b, O b → O2 b) (hMO : ∀ b, MFp F2 A.im ns2 b → O2 b) (hf : ∀ j, j < 162 → j ≠ 1 → f2 j = f j) (hn : u (f2 1) = ns2.length) (hn2 : ns2.length ≤ 75)
    (hins : ∀ i e, (es F2 ns2)[i]? = some e → InsE h2 F2 f2 i e) : ShowR G h2 F2 O2 s (A.wm ns2 k2) f2 g := by
  have np : ∀ {b}, ¬ MFp F A.im A.ns b → SFp h F A s b → ¬ P b := fun h1 h2 hp => (hPP _ hp).elim h1 (fun q => q h2)
  have es := fr.at S.is.lt (np (MFp.no S.im S.is (by decide)) (Or.inl rfl))
  have eh := fr.at S.hm.lt (np (MFp.no S.im S.hm (by decide)) (Or.inr (Or.inl rfl)))
  refine ⟨fr.is S.is, (es 0).trans S.f0, (es 1).trans S.f1, (es 2).trans S.f2, (es 3).trans S.f3, ?_, ?_, ?_, ?_, S.cl.kept fr (fun b hb => np (hb.noM S.im S.cl) (Or.inr (Or.inr (Or.inl hb)))), S.fl.kept fr (fun b hb => np (hb.noM S.im S.fl) (Or.inr (Or.inr (Or.inr (Or.inl hb))))), M2, t2, fr.is S.hm, fun c hc => ?_, ?_, S.nc2, hn, hn2, S.nf, fun k a hk => ?_, fun i p hi => ?_, fun c a hc => ?_, S.d1, fun c hc => ?_, S.d3, S.d4, S.d5, S.d6, S.d7, fun b hb => ?_⟩
  · rw [es 4, hf 2 (by decide) (by decide)]; exact S.f4
  · rw [es 5, hf 3 (by decide) (by decide)]; exact S.f5
  · rw [es 6, hf 4 (by decide) (by decide)]; exact S.f6
  · rw [es 7, hf 5 (by decide) (by decide)]; exact S.f7
  · rw [hf (6 + c) (by omega) (by omega)]; exact (eh c).trans (S.hv c hc)
  · rw [hf 0 (by decide) (by decide)]; exact S.nc
  · have hk : A.cs[k]? = some a := hk
    have hk12 : k < 12 := by have := (List.getElem?_eq_some_iff.mp hk).1; have := S.nc2; omega
    have C := S.cue k a hk
    have ham := List.mem_of_getElem? hk
    have C2 := C.fr fr (np (MFp.no S.im C.1 (by decide)) (Or.inr (Or.inr (Or.inr (Or.inr (Or.inr (Or.inr ⟨a, ham, Or.inl rfl⟩))))))) (np (MFp.no S.im C.2.2.2.2.2.2.2.2.1 (by decide)) (Or.inr (Or.inr (Or.inr (Or.inr (Or.inr (Or.inr ⟨a, ham, Or.inr (Or.inl rfl)⟩))))))) (np (MFp.no S.im C.2.2.2.2.2.2.2.2.2.1 (by decide)) (Or.inr (Or.inr (Or.inr (Or.inr (Or.inr (Or.inr ⟨a, ham, Or.inr (Or.inr rfl)⟩)))))))
    have hj : ∀ r, r < 12 → f2 (18 + 12 * k + r) = f (18 + 12 * k + r) := fun r hr => hf _ (by omega) (by omega)
    have h0 := hj 0 (by decide)
    have h1 := hj 1 (by decide)
    have h2 := hj 2 (by decide)
    have h3 := hj 3 (by decide)
    obtain ⟨t1, t2, t3, t4, t5, t6, t7, t8, t9, t10, t11, t12, t13⟩ := C2
    refine ⟨t1, ?_, ?_, ?_, ?_, ?_, t7, t8, t9, t10, fun q hq => ?_, ?_, ?_⟩
    · rw [show 18 + 12 * k = 18 + 12 * k + 0 from rfl, h0]; exact t2
    · rw [show 18 + 12 * k = 18 + 12 * k + 0 from rfl, h0]; exact t3
    · rw [h2]; exact t4
    · rw [h3]; exact t5
    · rw [h1]; exact t6
    · have e4 := hj (4 + 2 * q) (by omega)
      have e5 := hj (4 + 2 * q + 1) (by omega)
      rw [show 18 + 12 * k + 4 + 2 * q = 18 + 12 * k + (4 + 2 * q) by omega, show 18 + 12 * k + (4 + 2 * q) + 1 = 18 + 12 * k + (4 + 2 * q + 1) by omega, e4, e5, ← show 18 + 12 * k + (4 + 2 * q) + 1 = 18 + 12 * k + (4 + 2 * q + 1) by omega, ← show 18 + 12 * k + 4 + 2 * q = 18 + 12 * k + (4 + 2 * q) by omega]
      exact t11 q hq
    · rw [h2]; exact t12
    · rw [h3]; exact t13
  · have hi := hins i _ (es_get.mpr ⟨p, hi, rfl⟩)
    exact ⟨hi.1, hi.2.1, hi.2.2⟩
  · exact (S.fad c a hc).fr fr (np (MFp.no S.im (S.fad c a hc).1 (by decide)) (Or.inr (Or.inr (Or.inr (Or.inr (Or.inr (Or.inl (List.mem_of_getElem? hc))))))))
  · rcases S.cl.2.2.2.2.2.2.1 with ⟨-, i⟩ | ⟨i, -⟩
    · exact S.d2 _ i
    · exact S.d2 _ (i.ext_uniq fr.1 hc)
  · rcases hb with hb | hb | hb | hb | hb | hb | hb
    · exact hO _ (S.own b (Or.inl hb))
    · exact hO _ (S.own b (Or.inr (Or.inl hb)))
    · exact hO _ (S.own b (Or.inr (Or.inr (Or.inl (LF.back S.cl fr.1 hb)))))
    · exact hO _ (S.own b (Or.inr (Or.inr (Or.inr (Or.inl (LF.back S.fl fr.1 hb))))))
    · exact hMO b hb
    · exact hO _ (S.own b (Or.inr (Or.inr (Or.inr (Or.inr (Or.inr (Or.inl hb)))))))
    · exact hO _ (S.own b (Or.inr (Or.inr (Or.inr (Or.inr (Or.inr (Or.inr hb)))))))
/-- the list of fades changes -/
theorem ShowR.fadesG (S : ShowR G h F O s A f g) (L2 : LstR G h2 F2 A.fl A.fa A.fc fs2) (fr : Fr (LF h A.fl A.fa) h F h2 F2) (hl : fs2.length = 12) (hn : fs2.Nodup) (hf : ∀ c a, fs2[c]? = some a → FadR h2 F2 g2 a c) (hO : ∀ b, O b → O2 b) (hown : ∀ a, a ∈ fs2 → O2 a) : ShowR G h2 F2 O2 s (A.wf fs2) f g2 := by
  have no : ∀ {b k l : Nat}, Is h b k l → k ≠ 11 → k ≠ 35 → ¬ LF h A.fl A.fa b := fun hi h1 h2 hb => by
    rcases hb with e | ⟨e, z, hz⟩
    · exact hi.ne S.fl.1 h1 e
    · exact hi.ne hz h2 e
  have es := fr.at S.is.lt (no S.is (by decide) (by decide))
  have eh := fr.at S.hm.lt (no S.hm (by decide) (by decide))
  obtain ⟨m1, m2, m3, m4, m5⟩ := S.im.fr fr (fun b hb hb2 => hb2.noM S.im S.fl hb) (fun q hq => no hq (by decide) (by decide))
  refine ⟨fr.is S.is, (es 0).trans S.f0, (es 1).trans S.f1, (es 2).trans S.f2, (es 3).trans S.f3, (es 4).trans S.f4, (es 5).trans S.f5, (es 6).trans S.f6, (es 7).trans S.f7, S.cl.kept fr (fun b hb hb2 => ?_), L2, m1, m3 _ S.tk, fr.is S.hm, fun c hc => (eh c).trans (S.hv c hc), S.nc, S.nc2, S.ni, S.ni2, hl, fun k a hk => ?_, fun i p hi => ?_, hf, S.d1, fun c hc => ?_, S.d3, hn, S.d5, S.d6, S.d7, fun b hb => ?_⟩
  · rcases hb with e | ⟨e, z, hz⟩
    · rcases hb2 with e2 | ⟨e2, z2, hz2⟩
      · exact S.d1 (e.symm.trans e2)
      · exact S.cl.1.ne hz2 (by decide) (e.symm.trans e2)
    · rcases hb2 with e2 | ⟨e2, z2, hz2⟩
      · exact hz.ne S.fl.1 (by decide) (e.symm.trans e2)
      · exact S.d2 _ hz (e.symm.trans e2)
  · have C := S.cue k a hk
    exact C.fr fr (no C.1 (by decide) (by decide)) (no C.2.2.2.2.2.2.2.2.1 (by decide) (by decide)) (no C.2.2.2.2.2.2.2.2.2.1 (by decide) (by decide))
  · have hm := List.mem_of_getElem? hi
    obtain ⟨i1, i2, i3⟩ := S.ins i p hi
    have hpl : p < h.1 := MFp.lt S.im (Or.inr (Or.inl hm))
    have hnp : ¬ LF h A.fl A.fa p := fun hb => hb.noM S.im S.fl (Or.inr (Or.inl hm))
    have ek : kF F2 p = kF F p := kF_congr (fr.at hpl hnp 0)
    have ev : vF F2 p = vF F p := vF_congr (fr.at hpl hnp 2)
    unfold InsR
    rw [ek, ev]
    exact ⟨i1, i2, i3.fr fr fun b hb => by rcases hb with hb | hb | hb <;> exact no hb (by decide) (by decide)⟩
  · rcases S.cl.2.2.2.2.2.2.1 with ⟨-, i⟩ | ⟨i, -⟩
    · exact S.d2 _ i
    · exact S.d2 _ (i.ext_uniq fr.1 hc)
  · rcases hb with hb | hb | hb | hb | hb | hb | hb
    · exact hO _ (S.own b (Or.inl hb))
    · exact hO _ (S.own b (Or.inr (Or.inl hb)))
    · exact hO _ (S.own b (Or.inr (Or.inr (Or.inl (LF.back S.cl fr.1 hb)))))
    · exact hO _ (S.own b (Or.inr (Or.inr (Or.inr (Or.inl (LF.back S.fl fr.1 hb))))))
    · exact hO _ (S.own b (Or.inr (Or.inr (Or.inr (Or.inr (Or.inl ((m4 b).mp hb)))))))
    · exact hown b hb
    · exact hO _ (S.own b (Or.inr (Or.inr (Or.inr (Or.inr (Or.inr (Or.inr hb)))))))
/-- all homes are copied -/
theorem ShowR.homesG (S : ShowR G h F O s A f g) (fr : Fr (· = A.hm) h F h F2) (hv : ∀ c, c < 12 → F2 A.hm c = .int (f2 (6 + c))) (e : ∀ j, j < 6 ∨ 18 ≤ j → f2 j = f j) : ShowR G h F2 O s A f2 g := by
  have es := fr.at S.is.lt (S.is.ne S.hm (by decide))
  refine S.inpl fr (fun b hb => by subst hb; exact S.pkH) (fun j _ => es j) ?_ ?_ ?_ ?_ hv (e 0 (by omega)) (e 1 (by omega)) (fun j h1 h2 => e j (by omega)) (fun k a hk => ?_) (fun c2 a hc2 => ?_)
  · rw [e 2 (by omega)]; exact (es 4).trans S.f4
  · rw [e 3 (by omega)]; exact (es 5).trans S.f5
  · rw [e 4 (by omega)]; exact (es 6).trans S.f6
  · rw [e 5 (by omega)]; exact (es 7).trans S.f7
  · have C := S.cue k a hk
    obtain ⟨d1, d2⟩ := S.d7 a (List.mem_of_getElem? hk)
    exact (C.fr fr (C.1.ne S.hm (by decide)) d1 d2).cg fun r hr => e _ (by omega)
  · exact (S.fad c2 a hc2).fr fr (S.fa_ne hc2).2.1
end SHCOPY
