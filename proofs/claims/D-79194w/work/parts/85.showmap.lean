/-! ===== the show when its map changes (plain) ===== -/
def InsE (h : AH) (F : Nat → Nat → Value) (f : Nat → Int32) (i : Nat) (e : Nat × Nat) : Prop :=
  f (162 + 4 * i) = Int32.ofNat (e.1 / 12) ∧ f (162 + 4 * i + 1) = Int32.ofNat (e.1 % 12) ∧ TldR h F e.2 (f (162 + 4 * i + 2)) (f (162 + 4 * i + 3))
abbrev SA.wm (A : SA) (ns : List Nat) (ks : Nat) : SA := mkSA A.cl A.ca A.cc A.cs A.im ks ns A.hm A.fl A.fa A.fc A.fs A.dl A.tm
section SHOWMAP
variable {G : GG} {h h2 h3 : AH} {F F2 F3 : Nat → Nat → Value} {s c n k i p q k2 cc ss : Nat} {A : SA} {f f2 g : Nat → Int32} {O O2 P : Nat → Prop} {ns2 : List Nat} {lev part : Int32}
theorem es_get {ns : List Nat} {e : Nat × Nat} : (es F ns)[i]? = some e ↔ ∃ p, ns[i]? = some p ∧ e = (kF F p, vF F p) := by
  unfold es
  rw [List.getElem?_map]
  cases ns[i]? with
  | none => simp
  | some p => simp [eq_comm]
theorem ShowR.insE (S : ShowR G h F O s A f g) {e : Nat × Nat} (hi : (es F A.ns)[i]? = some e) : InsE h F f i e := by
  obtain ⟨p, hp, rfl⟩ := es_get.mp hi
  exact S.ins i p hp
theorem ShowR.esn (S : ShowR G h F O s A f g) : (es F A.ns).length = u (f 1) := by rw [S.ni]; exact List.length_map ..
theorem KIL.noM {m b : Nat} {ns : List Nat} (M : MapR h F m ns) (hk : KIL h b) : ¬ MFp F m ns b := by
  rcases hk with hk | hk | hk <;> exact MFp.no M hk (by decide)
theorem LF.noM {m b a arr cap : Nat} {ns xs : List Nat} (M : MapR h F m ns) (L : LstR G h F a arr cap xs) (hb : LF h a arr b) : ¬ MFp F m ns b := by
  rcases hb with rfl | ⟨rfl, z, hz⟩
  · exact MFp.no M L.1 (by decide)
  · exact MFp.no M hz (by decide)
theorem ShowR.map (S : ShowR G h F O s A f g) (M2 : MapR h2 F2 A.im ns2) (t2 : TK h2 F2 A.im k2) (st : MStep cc ss A.im h F A.ns A.ks h2 F2 ns2 k2) (hf : ∀ j, j < 162 → j ≠ 1 → f2 j = f j) (hn : u (f2 1) = ns2.length) (hn2 : ns2.length ≤ 75)
    (hins : ∀ i e, (es F2 ns2)[i]? = some e → InsE h F f2 i e) : ShowR G h2 F2 (fun b => O b ∨ h.1 ≤ b) s (A.wm ns2 k2) f2 g := by
  have fr := st.1
  have es := fr.at S.is.lt (MFp.no S.im S.is (by decide))
  have eh := fr.at S.hm.lt (MFp.no S.im S.hm (by decide))
  refine ⟨fr.is S.is, (es 0).trans S.f0, (es 1).trans S.f1, (es 2).trans S.f2, (es 3).trans S.f3, ?_, ?_, ?_, ?_, S.cl.kept fr (fun b hb => hb.noM S.im S.cl), S.fl.kept fr (fun b hb => hb.noM S.im S.fl), M2, t2, fr.is S.hm, fun c hc => ?_, ?_, S.nc2, hn, hn2, S.nf, fun k a hk => ?_, fun i p hi => ?_, fun c a hc => ?_, S.d1, fun c hc => ?_, S.d3, S.d4, S.d5, S.d6, S.d7, fun b hb => ?_⟩
  · rw [es 4, hf 2 (by decide) (by decide)]; exact S.f4
  · rw [es 5, hf 3 (by decide) (by decide)]; exact S.f5
  · rw [es 6, hf 4 (by decide) (by decide)]; exact S.f6
  · rw [es 7, hf 5 (by decide) (by decide)]; exact S.f7
  · rw [hf (6 + c) (by omega) (by omega)]; exact (eh c).trans (S.hv c hc)
  · rw [hf 0 (by decide) (by decide)]; exact S.nc
  · have hk : A.cs[k]? = some a := hk
    have hk12 : k < 12 := by have := (List.getElem?_eq_some_iff.mp hk).1; have := S.nc2; omega
    have C := S.cue k a hk
    have C2 := C.fr fr (MFp.no S.im C.1 (by decide)) (MFp.no S.im C.2.2.2.2.2.2.2.2.1 (by decide)) (MFp.no S.im C.2.2.2.2.2.2.2.2.2.1 (by decide))
    have hj : ∀ r, r < 12 → f2 (18 + 12 * k + r) = f (18 + 12 * k + r) := fun r hr => hf _ (by omega) (by omega)
    have h0 := hj 0 (by decide)
    have h1 := hj 1 (by decide)
    have h2 := hj 2 (by decide)
    have h3 := hj 3 (by decide)
    obtain ⟨t1, t2, t3, t4, t5, t6, t7, t8, t9, t10, t11, t12, t13⟩ := C2
    refine ⟨t1, ?_, ?_, ?_, ?_, ?_, t7, t8, t9, t10, fun q hq => ?_, ?_, ?_⟩
    · rw [show 18 + 12 * k = 18 + 12 * k + 0 from rfl, h0]; exact t2
    · rw [show 18 + 12 * k = 18 + 12 * k + 0 from rfl, h0]; exact t3
    · rw [h2]; exact t4
    · rw [h3]; exact t5
    · rw [h1]; exact t6
    · have e4 := hj (4 + 2 * q) (by omega)
      have e5 := hj (4 + 2 * q + 1) (by omega)
      rw [show 18 + 12 * k + 4 + 2 * q = 18 + 12 * k + (4 + 2 * q) by omega, show 18 + 12 * k + (4 + 2 * q) + 1 = 18 + 12 * k + (4 + 2 * q + 1) by omega, e4, e5, ← show 18 + 12 * k + (4 + 2 * q) + 1 = 18 + 12 * k + (4 + 2 * q + 1) by omega, ← show 18 + 12 * k + 4 + 2 * q = 18 + 12 * k + (4 + 2 * q) by omega]
      exact t11 q hq
    · rw [h2]; exact t12
    · rw [h3]; exact t13
  · have hi := hins i _ (es_get.mpr ⟨p, hi, rfl⟩)
    exact ⟨hi.1, hi.2.1, hi.2.2.fr fr (fun b hb => hb.noM S.im)⟩
  · exact (S.fad c a hc).fr fr (MFp.no S.im (S.fad c a hc).1 (by decide))
  · rcases S.cl.2.2.2.2.2.2.1 with ⟨-, i⟩ | ⟨i, -⟩
    · exact S.d2 _ i
    · exact S.d2 _ (i.ext_uniq fr.1 hc)
  · rcases hb with hb | hb | hb | hb | hb | hb | hb
    · exact Or.inl (S.own b (Or.inl hb))
    · exact Or.inl (S.own b (Or.inr (Or.inl hb)))
    · exact Or.inl (S.own b (Or.inr (Or.inr (Or.inl (LF.back S.cl fr.1 hb)))))
    · exact Or.inl (S.own b (Or.inr (Or.inr (Or.inr (Or.inl (LF.back S.fl fr.1 hb))))))
    · exact (st.2.2.2 b hb).imp (fun hb => S.own b (Or.inr (Or.inr (Or.inr (Or.inr (Or.inl hb)))))) (fun e => e)
    · exact Or.inl (S.own b (Or.inr (Or.inr (Or.inr (Or.inr (Or.inr (Or.inl hb)))))))
    · exact Or.inl (S.own b (Or.inr (Or.inr (Or.inr (Or.inr (Or.inr (Or.inr hb)))))))
/-- the steps of the map stay within what the show owns -/
theorem ShowR.mfr (S : ShowR G h F O s A f g) (fr : Fr (MFp F A.im A.ns) h F h2 F2) : Fr (OP O h) h F h2 F2 := fr.mono fun b _ hb => ⟨S.own b (Or.inr (Or.inr (Or.inr (Or.inr (Or.inl hb))))), fun hk => hk.noM S.im hb⟩
theorem ShowR.mcst (st : MStep cc ss A.im h F A.ns A.ks h2 F2 ns2 k2) (e : cc ≤ n) (e2 : ss ≤ 4 * n) : Cst (n + 1680) h h2 := by
  obtain ⟨-, a, b, -⟩ := st
  have : 97 * (k2 - A.ks) ≤ 97 * 8 := Nat.mul_le_mul_left _ (by omega)
  have : 840 * (k2 - A.ks) ≤ 840 * 8 := Nat.mul_le_mul_left _ (by omega)
  exact ⟨by omega, by omega⟩
theorem ShowR.gv_e (S : ShowR G h F O s A f g) {x : Nat} {v : Nat} (hc : c < 12) (hn : n < 100) (hx : x = 12 * n + c) (e : (es F A.ns)[i]? = some (x, v)) : gv f (Int32.ofNat n) (Int32.ofNat c) = some i := by
  obtain ⟨p, hp, e2⟩ := es_get.mp e
  cases e2
  have := S.gv_is hp
  rw [hx, show (12 * n + c) / 12 = n by omega, show (12 * n + c) % 12 = c by omega] at this
  exact this
theorem ShowR.gv_n (S : ShowR G h F O s A f g) {x : Nat} (hc : c < 12) (hn : n < 100) (hx : x = 12 * n + c) (e : ∀ e, e ∈ es F A.ns → e.1 ≠ x) : gv f (Int32.ofNat n) (Int32.ofNat c) = none :=
  S.gv_no hc hn fun p hp e2 => e (kF F p, vF F p) (List.mem_map.mpr ⟨p, hp, rfl⟩) (e2.trans hx.symm)
/-- an instruction that was there is replaced -/
theorem ShowR.put1 {vv x v0 : Nat} (S : ShowR G h F O s A f g) (hc : c < 12) (hn : n < 100) (hx : x = 12 * n + c) (M2 : MapR h2 F2 A.im ns2) (t2 : TK h2 F2 A.im k2) (st : MStep cc ss A.im h F A.ns A.ks h2 F2 ns2 k2) (T : TldR h F vv lev part)
    (h0 : (x, v0) ∈ es F A.ns) (e2 : es F2 ns2 = (es F A.ns).map fun e => if e.1 = x then (x, vv) else e) : ShowR G h2 F2 (fun b => O b ∨ h.1 ≤ b) s (A.wm ns2 k2) (giF f (Int32.ofNat n) (Int32.ofNat c) lev part) g := by
  obtain ⟨i0, hi0⟩ := List.mem_iff_getElem?.mp h0
  have hg := S.gv_e hc hn hx hi0
  have hK : giK f (Int32.ofNat n) (Int32.ofNat c) = i0 := by unfold giK; rw [hg]
  have hl : ns2.length = A.ns.length := by have := congrArg List.length e2; simpa [es] using this
  have h1 : giF f (Int32.ofNat n) (Int32.ofNat c) lev part 1 = f 1 := by
    unfold giF giM
    rw [hg, upd_o _ _ (by omega), upd_o _ _ (by omega), upd_o _ _ (by omega), upd_o _ _ (by omega)]
  obtain ⟨K0, K1, K2, K3⟩ := giF_K (f := f) (cue := Int32.ofNat n) (ch := Int32.ofNat c) (lev := lev) (part := part)
  rw [hK] at K0 K1 K2 K3
  refine S.map M2 t2 st (fun j hj hj1 => giF_lo hj hj1) (by rw [h1, hl]; exact S.ni) (by rw [hl]; exact S.ni2) fun i e he => ?_
  rw [e2, List.getElem?_map] at he
  cases he2 : (es F A.ns)[i]? with
  | none => rw [he2] at he; cases he
  | some e9 =>
    rw [he2] at he
    have he : (if e9.1 = x then (x, vv) else e9) = e := Option.some.inj he
    by_cases ei : i = i0
    · subst ei
      rw [hi0] at he2
      cases he2
      rw [if_pos rfl] at he
      subst he
      unfold InsE
      rw [K0, K1, K2, K3]
      exact ⟨by rw [hx]; congr 1; omega, by rw [hx]; congr 1; omega, T⟩
    · have hne : e9.1 ≠ x := fun e => by
        have he3 : (es F A.ns)[i]? = some (x, e9.2) := by rw [he2, ← e]
        have := S.gv_e hc hn hx he3
        rw [hg] at this
        exact ei (Option.some.inj this).symm
      rw [if_neg hne] at he
      subst he
      have I := S.insE he2
      unfold InsE
      have hh : ∀ r, r < 4 → giF f (Int32.ofNat n) (Int32.ofNat c) lev part (162 + 4 * i + r) = f (162 + 4 * i + r) := fun r hr => giF_hi (by omega) (by rw [hK]; omega)
      have e0 := hh 0 (by decide)
      rw [Nat.add_zero] at e0
      rw [e0, hh 1 (by decide), hh 2 (by decide), hh 3 (by decide)]
      exact I
/-- a new instruction -/
theorem ShowR.put2 {vv x : Nat} (S : ShowR G h F O s A f g) (hc : c < 12) (hn : n < 100) (hx : x = 12 * n + c) (h75 : A.ns.length < 75) (M2 : MapR h2 F2 A.im ns2) (t2 : TK h2 F2 A.im k2) (st : MStep cc ss A.im h F A.ns A.ks h2 F2 ns2 k2) (T : TldR h F vv lev part)
    (h0 : ∀ e, e ∈ es F A.ns → e.1 ≠ x) (e2 : es F2 ns2 = es F A.ns ++ [(x, vv)]) : ShowR G h2 F2 (fun b => O b ∨ h.1 ≤ b) s (A.wm ns2 k2) (giF f (Int32.ofNat n) (Int32.ofNat c) lev part) g := by
  have hg := S.gv_n hc hn hx h0
  have hK : giK f (Int32.ofNat n) (Int32.ofNat c) = u (f 1) := by unfold giK; rw [hg]
  have hl : ns2.length = A.ns.length + 1 := by have := congrArg List.length e2; simpa [es] using this
  have hni := S.ni
  have h1 : giF f (Int32.ofNat n) (Int32.ofNat c) lev part 1 = Int32.ofNat (u (f 1) + 1) := by
    unfold giF giM
    rw [hg, upd_o _ _ (by omega), upd_o _ _ (by omega), upd_o _ _ (by omega), upd_o _ _ (by omega)]
    exact upd_s _ _ _
  obtain ⟨K0, K1, K2, K3⟩ := giF_K (f := f) (cue := Int32.ofNat n) (ch := Int32.ofNat c) (lev := lev) (part := part)
  rw [hK] at K0 K1 K2 K3
  refine S.map M2 t2 st (fun j hj hj1 => giF_lo hj hj1) (by rw [h1, u_of (by omega), hl]; omega) (by omega) fun i e he => ?_
  have hlen := S.esn
  rw [e2] at he
  by_cases hi : i < (es F A.ns).length
  · rw [List.getElem?_append_left hi] at he
    have I := S.insE he
    unfold InsE
    have hh : ∀ r, r < 4 → giF f (Int32.ofNat n) (Int32.ofNat c) lev part (162 + 4 * i + r) = f (162 + 4 * i + r) := fun r hr => giF_hi (by omega) (by rw [hK]; omega)
    have e0 := hh 0 (by decide)
    rw [Nat.add_zero] at e0
    rw [e0, hh 1 (by decide), hh 2 (by decide), hh 3 (by decide)]
    exact I
  · have hi2 : i = u (f 1) := by
      have := (List.getElem?_eq_some_iff.mp he).1
      simp at this
      omega
    rw [List.getElem?_append_right (by omega), show i - (es F A.ns).length = 0 by omega] at he
    cases he
    subst hi2
    unfold InsE
    rw [K0, K1, K2, K3]
    exact ⟨by rw [hx]; congr 1; omega, by rw [hx]; congr 1; omega, T⟩
theorem tkF_1w {k : Nat} (h : u (f 1) ≤ 75) : u (tkF f k 1) = u (f 1) - 1 := by
  unfold tkF
  show u (if _ then _ else _) = _
  rw [if_neg (by omega)]
  show u (upd f 1 _ 1) = _
  rw [upd_s, u_of (by omega)]
/-- an instruction goes -/
theorem ShowR.del {x v : Nat} {B1 B2 : List (Nat × Nat)} (S : ShowR G h F O s A f g) (M2 : MapR h2 F2 A.im ns2) (t2 : TK h2 F2 A.im k2) (st : MStep cc ss A.im h F A.ns A.ks h2 F2 ns2 k2)
    (h0 : es F A.ns = B1 ++ (x, v) :: B2) (e2 : es F2 ns2 = B1 ++ B2) : ShowR G h2 F2 (fun b => O b ∨ h.1 ≤ b) s (A.wm ns2 k2) (tkF f B1.length) g := by
  have hl : ns2.length = B1.length + B2.length := by have := congrArg List.length e2; simpa [es] using this
  have hl0 : A.ns.length = B1.length + (B2.length + 1) := by have := congrArg List.length h0; simpa [es] using this
  have hni := S.ni
  have h75 := S.ni2
  refine S.map M2 t2 st (fun j hj hj1 => tkF_lo (by omega) hj1) (by rw [tkF_1w (by omega)]; omega) (by omega) fun i e he => ?_
  have hi : i < B1.length + B2.length := by have := (List.getElem?_eq_some_iff.mp he).1; simpa [es, hl] using this
  have hat : ∀ r, r < 4 → tkF f B1.length (162 + 4 * i + r) = if i < B1.length then f (162 + 4 * i + r) else f (162 + 4 * (i + 1) + r) := fun r hr => tkF_at hr (by omega)
  have e0 := hat 0 (by decide)
  rw [Nat.add_zero] at e0
  unfold InsE
  rw [e0, hat 1 (by decide), hat 2 (by decide), hat 3 (by decide)]
  rw [e2] at he
  by_cases hlt : i < B1.length
  · rw [if_pos hlt, if_pos hlt, if_pos hlt, if_pos hlt]
    rw [List.getElem?_append_left hlt] at he
    exact S.insE (by rw [h0, List.getElem?_append_left hlt]; exact he)
  · rw [if_neg hlt, if_neg hlt, if_neg hlt, if_neg hlt]
    rw [List.getElem?_append_right (by omega)] at he
    exact S.insE (by rw [h0, List.getElem?_append_right (by omega), show i + 1 - B1.length = (i - B1.length) + 1 by omega]; exact he)
end SHOWMAP
