/-! ===== Show.copy ===== -/
def CpyQ (G : GG) (O : Nat → Prop) (s : Nat) (A : SA) (f g : Nat → Int32) (h : AH) (F : Nat → Nat → Value) (r : RR) (h' : AH) : Prop :=
  ∃ (h2 : AH) (F2 : Nat → Nat → Value) (s2 : Nat) (A2 : SA) (V : Nat → Prop), r = .inl (some (.ref s2)) ∧ h' = sF h2 F2 ∧ Fr (OP O h) h F h2 F2 ∧ Cst 8000 h h2 ∧ (∀ b, V b → h.1 ≤ b ∧ b < h2.1) ∧ ShowR G h2 F2 (fun b => O b ∨ V b) s A f g ∧ ShowR G h2 F2 (fun b => h.1 ≤ b ∧ ¬ V b) s2 A2 f g
def fK (f : Nat → Int32) (k j : Nat) : Int32 := if j = 0 then Int32.ofNat k else if 18 ≤ j ∧ j < 18 + 12 * k then f j else 0
def fM (f : Nat → Int32) (k j : Nat) : Int32 := if j = 1 then f 1 else if 162 ≤ j then f j else fK f k j
def fH (f : Nat → Int32) (k j : Nat) : Int32 := if 6 ≤ j ∧ j < 18 then f j else fM f k j
def gK (g : Nat → Int32) (k j : Nat) : Int32 := if j < 5 * k then g j else 0
section SHCOPY2
variable {G : GG} {d n : Nat} {h h2 h3 h4 : AH} {F F2 F3 F4 : Nat → Nat → Value} {s c k i j p q k2 a ca2 cc2 dla tma m v s2 : Nat} {A A2 : SA} {f f2 g g2 : Nat → Int32} {O O2 P : Nat → Prop} {ns ns2 fs2 : List Nat}
theorem TK.le8 (M : MapR h F m ns) (t : TK h F m k) : k ≤ 8 := by
  rcases t with ⟨-, rfl⟩ | ⟨tb, h0, hi⟩
  · decide
  · obtain ⟨k', Bs, MC, -⟩ := M.toC h0
    have := TK.uniq (Or.inr ⟨tb, h0, hi⟩ : TK h F m k) MC.tk
    have := MC.2.2.2.2.2.2.2.2.2.2.2.1.2
    omega
theorem nd_set {xs : List Nat} (hn : xs.Nodup) (hx : a ∉ xs) : (xs.set k a).Nodup := by
  rw [List.nodup_iff_pairwise_ne, List.pairwise_iff_getElem] at hn ⊢
  intro i j hi hj hij
  rw [List.length_set] at hi hj
  rw [List.getElem_set, List.getElem_set]
  by_cases e1 : k = i
  · rw [if_pos e1, if_neg (by omega)]
    exact fun e => hx (e ▸ List.getElem_mem hj)
  · rw [if_neg e1]
    by_cases e2 : k = j
    · rw [if_pos e2]
      exact fun e => hx (e ▸ List.getElem_mem hi)
    · rw [if_neg e2]
      exact hn i j hi hj hij
/-- a cue comes at the end -/
theorem ShowR.appC (S : ShowR G h F O s A f g) (h12 : u (f 0) < 12) (C : CueR h F dla tma f2 a (u (f 0))) (hO : ∀ b, SFp h F A s b → b ≠ a ∧ b ≠ dla ∧ b ≠ tma) (hdt : dla ≠ tma) (L2 : LstR G h2 F2 A.cl ca2 cc2 (A.cs ++ [a])) (fr : Fr (LF h A.cl A.ca) h F h2 F2) (hca : ca2 = A.ca ∨ h.1 ≤ ca2)
    (hf : ∀ j, 162 ≤ j ∨ 0 < j ∧ j < 18 → f2 j = f j) (hrow : ∀ j, 18 ≤ j → j < 18 + 12 * u (f 0) → f2 j = f j) (hn : u (f2 0) = u (f 0) + 1) (hO2 : ∀ b, O b → O2 b) (hO3 : ∀ b, h.1 ≤ b → O2 b) (ho : O2 a ∧ O2 dla ∧ O2 tma) :
    ShowR G h2 F2 O2 s (A.wc ca2 cc2 (A.cs ++ [a]) (fun b => if b = a then dla else A.dl b) (fun b => if b = a then tma else A.tm b)) f2 g := by
  have hnc := S.nc
  have no : ∀ {b k l : Nat}, Is h b k l → k ≠ 11 → k ≠ 35 → ¬ LF h A.cl A.ca b := fun hi h1 h2 hb => by
    rcases hb with e | ⟨e, z, hz⟩
    · exact hi.ne S.cl.1 h1 e
    · exact hi.ne hz h2 e
  have sf : ∀ x, x ∈ A.cs → SFp h F A s x ∧ SFp h F A s (A.dl x) ∧ SFp h F A s (A.tm x) := fun x hx => ⟨Or.inr (Or.inr (Or.inr (Or.inr (Or.inr (Or.inr ⟨x, hx, Or.inl rfl⟩))))), Or.inr (Or.inr (Or.inr (Or.inr (Or.inr (Or.inr ⟨x, hx, Or.inr (Or.inl rfl)⟩))))), Or.inr (Or.inr (Or.inr (Or.inr (Or.inr (Or.inr ⟨x, hx, Or.inr (Or.inr rfl)⟩)))))⟩
  have hne : ∀ b, b ∈ A.cs → b ≠ a := fun b hb => (hO b (sf b hb).1).1
  have hmem : ∀ b, b ∈ A.cs ++ [a] ↔ b = a ∨ b ∈ A.cs := fun b => by simp [or_comm]
  have hlen : (A.cs ++ [a]).length = u (f 0) + 1 := by simp; omega
  refine S.cuesG L2 fr hca hf (by rw [hn, hlen]) (by omega) (fun k b hk => ?_) ?_ (fun x y hx hy => ?_) (fun x y hx hy hxy => ?_) (fun x hx => ?_) hO2 hO3 (fun x hx => ?_)
  · by_cases hlt : k < A.cs.length
    · rw [List.getElem?_append_left hlt] at hk
      have := hne b (List.mem_of_getElem? hk)
      rw [if_neg this, if_neg this]
      exact (S.cueF fr hk).cg fun r hr => hrow _ (by omega) (by omega)
    · have hk2 := (List.getElem?_eq_some_iff.mp hk).1
      have hke : k = A.cs.length := by omega
      subst hke
      rw [List.getElem?_append_right (Nat.le_refl _), Nat.sub_self] at hk
      cases hk
      rw [if_pos rfl, if_pos rfl, ← hnc]
      exact C.fr fr (no C.1 (by decide) (by decide)) (no C.2.2.2.2.2.2.2.2.1 (by decide) (by decide)) (no C.2.2.2.2.2.2.2.2.2.1 (by decide) (by decide))
  · rw [List.nodup_append]
    exact ⟨S.d3, List.nodup_cons.mpr ⟨by simp, List.nodup_nil⟩, fun x hx y hy => by simp at hy; subst hy; exact hne x hx⟩
  · rcases (hmem x).mp hx with rfl | hx9 <;> rcases (hmem y).mp hy with rfl | hy9
    · rw [if_pos rfl, if_pos rfl]; exact hdt
    · rw [if_pos rfl, if_neg (hne y hy9)]; exact Ne.symm (hO _ (sf y hy9).2.2).2.1
    · rw [if_neg (hne x hx9), if_pos rfl]; exact (hO _ (sf x hx9).2.1).2.2
    · rw [if_neg (hne x hx9), if_neg (hne y hy9)]; exact S.d5 x y hx9 hy9
  · rcases (hmem x).mp hx with rfl | hx9 <;> rcases (hmem y).mp hy with rfl | hy9
    · exact absurd rfl hxy
    · rw [if_pos rfl, if_neg (hne y hy9), if_pos rfl, if_neg (hne y hy9)]; exact ⟨Ne.symm (hO _ (sf y hy9).2.1).2.1, Ne.symm (hO _ (sf y hy9).2.2).2.2⟩
    · rw [if_neg (hne x hx9), if_pos rfl, if_neg (hne x hx9), if_pos rfl]; exact ⟨(hO _ (sf x hx9).2.1).2.1, (hO _ (sf x hx9).2.2).2.2⟩
    · rw [if_neg (hne x hx9), if_neg (hne y hy9), if_neg (hne x hx9), if_neg (hne y hy9)]; exact S.d6 x y hx9 hy9 hxy
  · have hmO := hO A.hm (Or.inr (Or.inl rfl))
    rcases (hmem x).mp hx with rfl | hx9
    · rw [if_pos rfl, if_pos rfl]; exact ⟨Ne.symm hmO.2.1, Ne.symm hmO.2.2⟩
    · rw [if_neg (hne x hx9), if_neg (hne x hx9)]; exact S.d7 x hx9
  · rcases (hmem x).mp hx with rfl | hx9
    · rw [if_pos rfl, if_pos rfl]; exact ho
    · rw [if_neg (hne x hx9), if_neg (hne x hx9)]
      obtain ⟨o1, o2, o3⟩ := S.ownC hx9
      exact ⟨hO2 _ o1, hO2 _ o2, hO2 _ o3⟩
theorem ShowR.cg2 (S : ShowR G h F O s A f g) (e : ∀ j, j < 18 + 12 * u (f 0) → f2 j = f j) (hr : ∀ j, 162 ≤ j → j < 162 + 4 * u (f 1) → f2 j = f j) (eg : ∀ j, j < 60 → g2 j = g j) : ShowR G h F O s A f2 g2 :=
  S.inpl (P := NoP) Fr.refl (fun _ hf => hf.elim) (fun _ _ => rfl) (by rw [e 2 (by omega)]; exact S.f4) (by rw [e 3 (by omega)]; exact S.f5) (by rw [e 4 (by omega)]; exact S.f6) (by rw [e 5 (by omega)]; exact S.f7) (fun c hc => by rw [e (6 + c) (by omega)]; exact S.hv c hc) (e 0 (by omega)) (e 1 (by omega)) hr
    (fun k a hk => by
      have hk12 : k < u (f 0) := by rw [S.nc]; exact (List.getElem?_eq_some_iff.mp hk).1
      exact (S.cue k a hk).cg fun r hr => e _ (by omega))
    (fun c a hc => by
      have hc12 : c < 12 := by have := (List.getElem?_eq_some_iff.mp hc).1; have := S.nf; omega
      have F9 := S.fad c a hc
      unfold FadR
      rw [eg (5 * c) (by omega), eg (5 * c + 1) (by omega), eg (5 * c + 2) (by omega), eg (5 * c + 3) (by omega), eg (5 * c + 4) (by omega)]
      exact F9)
theorem cp_eq (h : j < 18 + 12 * u (f 0) ∨ 162 ≤ j) : (if 2 ≤ j ∧ j < 6 then f j else fH f (u (f 0)) j) = f j := by
  by_cases a1 : 2 ≤ j ∧ j < 6
  · rw [if_pos a1]
  · rw [if_neg a1]
    unfold fH
    by_cases a2 : 6 ≤ j ∧ j < 18
    · rw [if_pos a2]
    · rw [if_neg a2]
      unfold fM
      by_cases a3 : j = 1
      · rw [if_pos a3, a3]
      · rw [if_neg a3]
        by_cases a4 : 162 ≤ j
        · rw [if_pos a4]
        · rw [if_neg a4]
          unfold fK
          by_cases a5 : j = 0
          · rw [if_pos a5, a5]; exact u_self _
          · rw [if_neg a5, if_pos (by omega)]
/-- the fades, and the numbers -/
theorem cp_77 {V : Nat → Prop} (hd : 14 ≤ d) : ∀ (t k : Nat) (h2 : AH) (F2 : Nat → Nat → Value) (A2 : SA), k + t = 12 → Fr (OP O h) h F h2 F2 → Cst (7900 + 2 * k) h h2 → (∀ b, V b → h.1 ≤ b ∧ b < h2.1) → (∀ b, O b → b < h.1) → ShowR G h2 F2 (fun b => O b ∨ V b) s A f g → ShowR G h2 F2 (fun b => h.1 ≤ b ∧ ¬ V b) s2 A2 (fH f (u (f 0))) (gK g k) →
    WA G d mX2_copy 77 [.ref s, .ref s2, .int (Int32.ofNat k)] [] (sF h2 F2) (CpyQ G O s A f g h F) := by
  intro t
  induction t with
  | zero =>
    intro k h2 F2 A2 hk fr cst hv2 hO S D
    have hk : k = 12 := by omega
    subst hk
    have S_is := S.is; have S_0 := S.f0; have S_1 := S.f1; have S_2 := S.f2; have S_3 := S.f3; have S_4 := S.f4; have S_5 := S.f5; have S_6 := S.f6; have S_7 := S.f7; have S_h := S.hm; have S_c := S.cl.1; have S_l := S.fl.1; have S_m := S.im.1
    have D_is := D.is; have D_0 := D.f0; have D_1 := D.f1; have D_2 := D.f2; have D_3 := D.f3; have D_4 := D.f4; have D_5 := D.f5; have D_6 := D.f6; have D_7 := D.f7; have D_h := D.hm; have D_c := D.cl.1; have D_l := D.fl.1; have D_m := D.im.1
    have hss : s ≠ s2 := fun e => by
      have h1 := S.own s (Or.inl rfl)
      have h2 := D.own s2 (Or.inl rfl)
      rcases h1 with h1 | h1
      · have := hO s h1; omega
      · exact h2.2 (e ▸ h1)
    have hss2 := Ne.symm hss
    refine wa_iload_n (pc := 77) (y := mX2_copy) dX2_copy_77 rfl ?_
    refine wa_bipush (pc := 78) (y := mX2_copy) (Int32.ofNat 12) dX2_copy_78 rfl ?_
    refine wa_icmp_ge (pc := 80) 112 dX2_copy_80 rfl (fun hb80 => ?_) (fun hb80 => absurd ((iN_le (by omega) (by omega)).mpr (Nat.le_refl 12)) hb80)
    refine wa_aloadV_n (pc := 112) (y := mX2_copy) dX2_copy_112 rfl (by first | exact rf_s _ | exact rf_n | exact rf_q _) ?_
    refine wa_aloadV_n (pc := 113) (y := mX2_copy) dX2_copy_113 rfl (by first | exact rf_s _ | exact rf_n | exact rf_q _) ?_
    refine wf_get (k := 1) (l := 8) 4 dX2_copy_114 (by assumption) rfl q363 (Or.inl rfl) (Nat.le_of_ble_eq_true rfl) (Nat.le_of_ble_eq_true rfl) (by (repeat (first | exact updF_self _ _ _ _ | (apply updF_i; · decide) | (apply updF_a; · first | assumption | (apply Ne.symm; assumption) | omega) | (apply newF_a; · first | assumption | (apply Ne.symm; assumption) | omega) | exact newL_self (by rfl) | exact newF_self (by rfl) | (apply cpyF_a; · first | assumption | (apply Ne.symm; assumption) | omega))) <;> first | assumption | rfl) ?_
    refine wf_put (k := 1) (l := 8) 4 .int dX2_copy_117 (by assumption) rfl q363 (Or.inl rfl) (Nat.le_of_ble_eq_true rfl) rfl (by decide +kernel) rfl rfl ?_
    refine wa_aloadV_n (pc := 120) (y := mX2_copy) dX2_copy_120 rfl (by first | exact rf_s _ | exact rf_n | exact rf_q _) ?_
    refine wa_aloadV_n (pc := 121) (y := mX2_copy) dX2_copy_121 rfl (by first | exact rf_s _ | exact rf_n | exact rf_q _) ?_
    refine wf_get (k := 1) (l := 8) 5 dX2_copy_122 (by assumption) rfl q365 (Or.inl rfl) (Nat.le_of_ble_eq_true rfl) (Nat.le_of_ble_eq_true rfl) (by (repeat (first | exact updF_self _ _ _ _ | (apply updF_i; · decide) | (apply updF_a; · first | assumption | (apply Ne.symm; assumption) | omega) | (apply newF_a; · first | assumption | (apply Ne.symm; assumption) | omega) | exact newL_self (by rfl) | exact newF_self (by rfl) | (apply cpyF_a; · first | assumption | (apply Ne.symm; assumption) | omega))) <;> first | assumption | rfl) ?_
    refine wf_put (k := 1) (l := 8) 5 .int dX2_copy_125 (by assumption) rfl q365 (Or.inl rfl) (Nat.le_of_ble_eq_true rfl) rfl (by decide +kernel) rfl rfl ?_
    refine wa_aloadV_n (pc := 128) (y := mX2_copy) dX2_copy_128 rfl (by first | exact rf_s _ | exact rf_n | exact rf_q _) ?_
    refine wa_aloadV_n (pc := 129) (y := mX2_copy) dX2_copy_129 rfl (by first | exact rf_s _ | exact rf_n | exact rf_q _) ?_
    refine wf_get (k := 1) (l := 8) 6 dX2_copy_130 (by assumption) rfl q367 (Or.inl rfl) (Nat.le_of_ble_eq_true rfl) (Nat.le_of_ble_eq_true rfl) (by (repeat (first | exact updF_self _ _ _ _ | (apply updF_i; · decide) | (apply updF_a; · first | assumption | (apply Ne.symm; assumption) | omega) | (apply newF_a; · first | assumption | (apply Ne.symm; assumption) | omega) | exact newL_self (by rfl) | exact newF_self (by rfl) | (apply cpyF_a; · first | assumption | (apply Ne.symm; assumption) | omega))) <;> first | assumption | rfl) ?_
    refine wf_put (k := 1) (l := 8) 6 .int dX2_copy_133 (by assumption) rfl q367 (Or.inl rfl) (Nat.le_of_ble_eq_true rfl) rfl (by decide +kernel) rfl rfl ?_
    refine wa_aloadV_n (pc := 136) (y := mX2_copy) dX2_copy_136 rfl (by first | exact rf_s _ | exact rf_n | exact rf_q _) ?_
    refine wa_aloadV_n (pc := 137) (y := mX2_copy) dX2_copy_137 rfl (by first | exact rf_s _ | exact rf_n | exact rf_q _) ?_
    refine wf_get (k := 1) (l := 8) 7 dX2_copy_138 (by assumption) rfl q369 (Or.inl rfl) (Nat.le_of_ble_eq_true rfl) (Nat.le_of_ble_eq_true rfl) (by (repeat (first | exact updF_self _ _ _ _ | (apply updF_i; · decide) | (apply updF_a; · first | assumption | (apply Ne.symm; assumption) | omega) | (apply newF_a; · first | assumption | (apply Ne.symm; assumption) | omega) | exact newL_self (by rfl) | exact newF_self (by rfl) | (apply cpyF_a; · first | assumption | (apply Ne.symm; assumption) | omega))) <;> first | assumption | rfl) ?_
    refine wf_put (k := 1) (l := 8) 7 .int dX2_copy_141 (by assumption) rfl q369 (Or.inl rfl) (Nat.le_of_ble_eq_true rfl) rfl (by decide +kernel) rfl rfl ?_
    generalize hF5 : updF _ _ _ _ = F5
    have frx : Fr (· = s2) h2 F2 h2 F5 := by rw [← hF5]; exact (((Fr.upd (P := (· = s2)) rfl).updT (Or.inl rfl)).updT (Or.inl rfl)).updT (Or.inl rfl)
    have D2 := D.setS (f2 := fun j => if 2 ≤ j ∧ j < 6 then f j else fH f (u (f 0)) j) frx (fun j hj => by rw [← hF5]; exact updF_i (by omega) (updF_i (by omega) (updF_i (by omega) (updF_i (by omega) rfl)))) (by rw [← hF5]; exact updF_i (by decide) (updF_i (by decide) (updF_i (by decide) (updF_self _ _ _ _)))) (by rw [← hF5]; exact updF_i (by decide) (updF_i (by decide) (updF_self _ _ _ _))) (by rw [← hF5]; exact updF_i (by decide) (updF_self _ _ _ _)) (by rw [← hF5]; exact updF_self _ _ _ _) (fun j hj => if_neg (by omega))
    have S2 := S.fr frx (fun b hb e => by have h1 := S.own b hb; have h2 := D.own s2 (Or.inl rfl); subst e; rcases h1 with h1 | h1; have := hO _ h1; omega; exact h2.2 h1) (fun b hk e => by subst e; rcases hk with e | e | e <;> exact absurd rfl (e.ne D_is (by decide)))
    have hz : (if 2 ≤ 0 ∧ 0 < 6 then f 0 else fH f (u (f 0)) 0) = f 0 := cp_eq (j := 0) (Or.inl (by omega))
    refine wa_aloadV_n (pc := 144) (y := mX2_copy) dX2_copy_144 rfl (by first | exact rf_s _ | exact rf_n | exact rf_q _) ?_
    refine wa_areturnV (pc := 145) (y := mX2_copy) (.object "CueStack$Show") dX2_copy_145 rfl (Or.inl ⟨_, rfl⟩) (by first | exact rf_s _ | exact rf_n | exact rf_q _) ⟨h2, F5, s2, A2, V, rfl, rfl, fr.trans frx (fun b hb e => by subst e; have h2 := D.own _ (Or.inl rfl); omega), cst.mono (by omega), hv2, S2, D2.cg2 (fun j hj => (cp_eq (Or.inl (by rw [hz] at hj; exact hj))).symm) (fun j h1 h3 => (cp_eq (Or.inr h1)).symm) (fun j hj => by unfold gK; rw [if_pos (by omega)])⟩
  | succ t ih =>
    intro k h2 F2 A2 hk fr cst hv2 hO S D
    have S_is := S.is; have S_0 := S.f0; have S_1 := S.f1; have S_2 := S.f2; have S_3 := S.f3; have S_4 := S.f4; have S_5 := S.f5; have S_6 := S.f6; have S_7 := S.f7; have S_h := S.hm; have S_c := S.cl.1; have S_l := S.fl.1; have S_m := S.im.1
    have D_is := D.is; have D_0 := D.f0; have D_1 := D.f1; have D_2 := D.f2; have D_3 := D.f3; have D_4 := D.f4; have D_5 := D.f5; have D_6 := D.f6; have D_7 := D.f7; have D_h := D.hm; have D_c := D.cl.1; have D_l := D.fl.1; have D_m := D.im.1
    obtain ⟨y, hy⟩ := S.fadeOf (c := k) (by omega)
    obtain ⟨w, hw⟩ := D.fadeOf (c := k) (by omega)
    have T := S.fad k y hy
    have t1 := T.1
    refine wa_iload_n (pc := 77) (y := mX2_copy) dX2_copy_77 rfl ?_
    refine wa_bipush (pc := 78) (y := mX2_copy) (Int32.ofNat 12) dX2_copy_78 rfl ?_
    refine wa_icmp_ge (pc := 80) 112 dX2_copy_80 rfl (fun hb80 => absurd ((iN_le (by omega) (by omega)).mp hb80) (by omega)) (fun hb80 => ?_)
    refine wa_aloadV_n (pc := 83) (y := mX2_copy) dX2_copy_83 rfl (by first | exact rf_s _ | exact rf_n | exact rf_q _) ?_
    refine wf_get (k := 1) (l := 8) 3 dX2_copy_84 (by assumption) rfl q361 (Or.inl rfl) (Nat.le_of_ble_eq_true rfl) (Nat.le_of_ble_eq_true rfl) (by (repeat (first | exact updF_self _ _ _ _ | (apply updF_i; · decide) | (apply updF_a; · first | assumption | (apply Ne.symm; assumption) | omega) | (apply newF_a; · first | assumption | (apply Ne.symm; assumption) | omega) | exact newL_self (by rfl) | exact newF_self (by rfl) | (apply cpyF_a; · first | assumption | (apply Ne.symm; assumption) | omega))) <;> first | assumption | rfl) ?_
    refine wa_iload_n (pc := 87) (y := mX2_copy) dX2_copy_87 rfl ?_
    refine wa_aloadV_n (pc := 88) (y := mX2_copy) dX2_copy_88 rfl (by first | exact rf_s _ | exact rf_n | exact rf_q _) ?_
    refine wf_get (k := 1) (l := 8) 3 dX2_copy_89 (by assumption) rfl q361 (Or.inl rfl) (Nat.le_of_ble_eq_true rfl) (Nat.le_of_ble_eq_true rfl) (by (repeat (first | exact updF_self _ _ _ _ | (apply updF_i; · decide) | (apply updF_a; · first | assumption | (apply Ne.symm; assumption) | omega) | (apply newF_a; · first | assumption | (apply Ne.symm; assumption) | omega) | exact newL_self (by rfl) | exact newF_self (by rfl) | (apply cpyF_a; · first | assumption | (apply Ne.symm; assumption) | omega))) <;> first | assumption | rfl) ?_
    refine wa_iload_n (pc := 92) (y := mX2_copy) dX2_copy_92 rfl ?_
    refine wa_callV (pc := 93) (s_J2_get (d := d - 1) (by omega) S.fl hy) dX2_copy_93 okJ2_get q416 q417 q418 (sF_at (by assumption)) rfl rfl rfl (Nat.le_of_ble_eq_true rfl) (Nat.le_of_ble_eq_true rfl) (by omega) ?_
    rintro _ _ - - ⟨rfl, rfl⟩
    refine aft_v (pc2 := 96) ?_ rfl
    refine wa_castS (pc := 96) (y := mX2_copy) (k := 2) dX2_copy_96 (sF_at (by assumption)) rfl q246 ?_
    refine wa_callV (pc := 99) (s_X3_copy (d := d - 1) (by omega) T) dX2_copy_99 okX3_copy q1668 q1669 q1670 (sF_at (by assumption)) rfl rfl rfl (Nat.le_of_ble_eq_true rfl) (Nat.le_of_ble_eq_true rfl) (by omega) ?_
    rintro _ _ - - ⟨h3, F3, rfl, rfl, fr3, cst3, T3⟩
    refine aft_v (pc2 := 102) ?_ rfl
    have S3 := S.rd fr3; have D3 := D.rd fr3
    have S3_is := S3.is; have S3_0 := S3.f0; have S3_1 := S3.f1; have S3_2 := S3.f2; have S3_3 := S3.f3; have S3_4 := S3.f4; have S3_5 := S3.f5; have S3_6 := S3.f6; have S3_7 := S3.f7; have S3_h := S3.hm; have S3_c := S3.cl.1; have S3_l := S3.fl.1; have S3_m := S3.im.1
    have D3_is := D3.is; have D3_0 := D3.f0; have D3_1 := D3.f1; have D3_2 := D3.f2; have D3_3 := D3.f3; have D3_4 := D3.f4; have D3_5 := D3.f5; have D3_6 := D3.f6; have D3_7 := D3.f7; have D3_h := D3.hm; have D3_c := D3.cl.1; have D3_l := D3.fl.1; have D3_m := D3.im.1
    have t3 := T3.1
    refine wa_callV (pc := 102) (s_J2_set (d := d - 1) (by omega) D3.fl hw ⟨2, 5, t3, Or.inr (Or.inl rfl)⟩) dX2_copy_102 okJ2_set q1674 q1675 q1676 (sF_at (by assumption)) rfl rfl rfl (Nat.le_of_ble_eq_true rfl) (Nat.le_of_ble_eq_true rfl) (by omega) ?_
    rintro _ _ - - ⟨rfl, rfl, L4⟩
    refine aft_v (pc2 := 105) ?_ rfl
    refine wa_pop (pc := 105) (y := mX2_copy) dX2_copy_105 (by first | rfl | exact rf_cat _) ?_
    have hfa : LF h3 A2.fl A2.fa A2.fa ∨ False := by rcases D3.fl.2.2.2.2.2.2.1 with ⟨-, q⟩ | ⟨-, q, -⟩; exact Or.inl (Or.inr ⟨rfl, _, q⟩); exact absurd (D3.nf ▸ D3.fl.2.2.2.2.1 : 12 ≤ _) (by omega)
    have hfa := hfa.resolve_right (fun q => q)
    have frL : Fr (LF h3 A2.fl A2.fa) h3 F3 h3 (updF F3 A2.fa k (.ref h2.1)) := Fr.upd hfa
    have hO2 : ∀ b, b < h2.1 → (h.1 ≤ b ∧ ¬ V b) → (h.1 ≤ b ∧ ¬ V b) := fun b _ q => q
    have D4 := D3.fadesG (g2 := gK g (k + 1)) (O2 := fun b => h.1 ≤ b ∧ ¬ V b) L4 frL (by rw [List.length_set]; exact D3.nf) (nd_set D3.d4 (fun hm => by obtain ⟨c9, hc9⟩ := List.mem_iff_getElem?.mp hm; exact absurd (D.fad c9 _ hc9).1.lt (Nat.lt_irrefl _))) (fun c a hca => by
      have hcl : c < 12 := by have := (List.getElem?_eq_some_iff.mp hca).1; rw [List.length_set, D3.nf] at this; exact this
      have no2 : ∀ b, Is h3 b 2 5 → ¬ LF h3 A2.fl A2.fa b := fun b hb q => by rcases q with e | ⟨e, z, hz⟩; exact hb.ne D3_l (by decide) e; exact hb.ne hz (by decide) e
      by_cases e : c = k
      · subst e
        rw [List.getElem?_set_self (by have := D3.nf; omega)] at hca
        cases hca
        have T5 := T3.fr frL (no2 _ t3)
        unfold FadR gK at *
        rw [if_pos (by omega), if_pos (by omega), if_pos (by omega), if_pos (by omega), if_pos (by omega)]
        exact T5
      · rw [List.getElem?_set_ne (by omega)] at hca
        have T5 := (D3.fad c a hca).fr frL (no2 _ (D3.fad c a hca).1)
        have hg : ∀ r, r < 5 → gK g (k + 1) (5 * c + r) = gK g k (5 * c + r) := fun r hr => by unfold gK; by_cases h9 : 5 * c + r < 5 * k; rw [if_pos (by omega), if_pos h9]; rw [if_neg (by omega), if_neg h9]
        have h0 := hg 0 (by decide)
        have h0 : gK g (k + 1) (5 * c) = gK g k (5 * c) := h0
        unfold FadR
        rw [h0, hg 1 (by decide), hg 2 (by decide), hg 3 (by decide), hg 4 (by decide)]
        exact T5) (fun b hb => hb) (fun a ha => by rcases List.mem_or_eq_of_mem_set ha with ha | rfl; exact D3.own a (Or.inr (Or.inr (Or.inr (Or.inr (Or.inr (Or.inl ha)))))); exact ⟨by have := fr.1.1; omega, fun q => by have := (hv2 _ q).2; omega⟩)
    have hDS : ∀ b, SFp h3 F3 A s b → ¬ LF h3 A2.fl A2.fa b := fun b hb q => by have h1 := S3.own b hb; have h2 := D3.own b (Or.inr (Or.inr (Or.inr (Or.inl q)))); rcases h1 with h1 | h1; have := hO b h1; omega; exact h2.2 h1
    have S4 := S3.fr frL hDS (fun b hk q => by have i9 := D3.fl.1; rcases q with e | ⟨e, z, hz⟩ <;> (rcases hk with e2 | e2 | e2) <;> first | exact absurd e (e2.ne i9 (by decide)) | exact absurd e (e2.ne hz (by decide)))
    refine wa_iincN (pc := 106) (y := mX2_copy) dX2_copy_106 rfl (Nat.le_of_ble_eq_true rfl) (by first | rfl | (simp [okst, rf_cat] <;> assumption)) ?_
    simp only [List.set_cons_zero, List.set_cons_succ]
    refine wa_goto (pc := 109) (y := mX2_copy) 77 dX2_copy_109 rfl ?_
    exact ih (k + 1) h3 _ _ (by omega) ((fr.trans fr3 (fun _ _ q => q.elim)).trans frL (fun b hb q => by have h2 := D3.own b (Or.inr (Or.inr (Or.inr (Or.inl q)))); omega)) ((cst.trans cst3).mono (by omega)) (fun b q => ⟨(hv2 b q).1, Nat.lt_of_lt_of_le (hv2 b q).2 fr3.1.1⟩) hO S4 D4
end SHCOPY2
