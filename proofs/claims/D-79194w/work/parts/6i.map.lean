/-! ===== the map: what holds of it; looking up ===== -/
/-- the number of a node's key, as its hash tells -/
def kF (F : Nat → Nat → Value) (p : Nat) : Nat := match F p 0 with
  | .int x => u x
  | _ => 0
def vF (F : Nat → Nat → Value) (p : Nat) : Nat := match F p 2 with
  | .ref v => v
  | _ => 0
def NodeR (h : AH) (F : Nat → Nat → Value) (p : Nat) : Prop := Nd h p ∧ NK h F p (kF F p) ∧ F p 2 = .ref (vF F p)
def BinR (h : AH) (F : Nat → Nat → Value) (B : List Nat) : Prop := LBin h F B ∨ TBin h F B (kF F)
/-- a table of 2^k bins over the nodes ns -/
def TabR (h : AH) (F : Nat → Nat → Value) (tb k : Nat) (ns : List Nat) (B : Nat → List Nat) : Prop :=
  Is h tb 36 (2 ^ k) ∧ ∀ b, b < 2 ^ k → F tb b = va_rf (B b).head? ∧ BinR h F (B b) ∧ (B b).Nodup ∧ ∀ p, p ∈ B b ↔ p ∈ ns ∧ kF F p % 2 ^ k = b
/-- the views of a map: none yet, or an object that tells the map -/
def VwR (h : AH) (F : Nat → Nat → Value) (m i k : Nat) : Prop := F m i = .null ∨ ∃ v, F m i = .ref v ∧ Is h v k 2 ∧ F v 0 = .int 0 ∧ F v 1 = .ref m
def thr (k : Nat) : Nat := 2 ^ k * 3 / 4
def MapR (h : AH) (F : Nat → Nat → Value) (m : Nat) (ns : List Nat) : Prop :=
  Is h m 12 12 ∧ F m 2 = .int (Int32.ofNat ns.length) ∧ (∃ z : Int32, F m 3 = .int z) ∧ F m 5 = .float 1061158912 ∧ F m 10 = .int 0 ∧ F m 11 = .int 0 ∧ LO F m ns ∧ ns.Nodup ∧ (∀ p, p ∈ ns → NodeR h F p) ∧ (∀ p q, p ∈ ns → q ∈ ns → kF F p = kF F q → p = q) ∧
    (VwR h F m 1 19 ∧ VwR h F m 6 15 ∧ VwR h F m 7 17) ∧
    ((F m 0 = .null ∧ ns = [] ∧ ∃ t : Nat, F m 4 = .int (Int32.ofNat t) ∧ (t = 0 ∨ ∃ k, 1 ≤ k ∧ k ≤ 7 ∧ t = 2 ^ k)) ∨
      ∃ (tb k : Nat) (B : Nat → List Nat), F m 0 = .ref tb ∧ TabR h F tb k ns B ∧ (1 ≤ k ∧ k ≤ 8) ∧ F m 4 = .int (Int32.ofNat (thr k)) ∧ ns.length ≤ thr k)
section MAP
variable {G : GG} {d n : Nat} {h h2 : AH} {F F2 F3 : Nat → Nat → Value} {m tb k p q x v : Nat} {ns a b B : List Nat}
theorem kF_of (e : F p 0 = .int (Int32.ofNat x)) (hx : x < 4294967296) : kF F p = x := by
  unfold kF
  rw [e]
  exact u_of hx
theorem vF_of (e : F p 2 = .ref v) : vF F p = v := by
  unfold vF
  rw [e]
theorem kF_congr (e : F2 p 0 = F p 0) : kF F2 p = kF F p := by
  unfold kF
  rw [e]
theorem vF_congr (e : F2 p 2 = F p 2) : vF F2 p = vF F p := by
  unfold vF
  rw [e]
theorem NodeR.lt (r : NodeR h F p) : kF F p < 1200 := by
  obtain ⟨-, ⟨-, q, -, -, -, -, h9⟩, -⟩ := r
  exact h9
theorem LBin.nd {F : Nat → Nat → Value} (l : LBin h F B) {p : Nat} (hp : p ∈ B) : Is h p 13 6 := l.1 p hp
theorem TBin.is {κ : Nat → Nat} (t : TBin h F B κ) {p : Nat} (hp : p ∈ B) : Is h p 14 11 := by
  obtain ⟨-, root, L, R, P, C, lo, hi, rk, M, t1, t2⟩ := t
  exact (t2 p hp).1
theorem BinR.chain (r : BinR h F B) : ChE F 3 B none := r.elim (·.2) (·.1.1)
theorem NK.key (nk : NK h F p x) : F p 0 = .int (Int32.ofNat x) ∧ ∃ q, F p 1 = .ref q ∧ KeyAt h F q x := nk
/-- going along a chain: the node of the number x, or none -/
theorem chain_find (P : Nat → Prop) (B : List Nat) : (∃ a p b, B = a ++ p :: b ∧ P p ∧ ∀ z, z ∈ a → ¬ P z) ∨ ∀ z, z ∈ B → ¬ P z := by
  induction B with
  | nil => exact Or.inr fun z hz => by cases hz
  | cons z B ih =>
    by_cases hz : P z
    · exact Or.inl ⟨[], z, B, rfl, hz, fun w hw => by cases hw⟩
    · rcases ih with ⟨a, p, b, e, h1, h2⟩ | ih
      · refine Or.inl ⟨z :: a, p, b, by rw [e]; rfl, h1, fun w hw => ?_⟩
        rcases List.mem_cons.mp hw with rfl | hw
        · exact hz
        · exact h2 w hw
      · refine Or.inr fun w hw => ?_
        rcases List.mem_cons.mp hw with rfl | hw
        · exact hz
        · exact ih w hw
/-- what getNode answers -/
def GnQ (F : Nat → Nat → Value) (ns : List Nat) (x : Nat) (h0 : AH) (r : RR) (h' : AH) : Prop := ∃ o : Option Nat, r = .inl (some (va_rf o)) ∧ h' = h0 ∧ (∀ p, o = some p → p ∈ ns ∧ kF F p = x) ∧ (o = none → ∀ p, p ∈ ns → kF F p ≠ x)
theorem s_J4_getNode (hd : 3 ≤ d) (M : MapR h F m ns) (K : KeyAt h F q x) : MA G d mJ4_getNode [.ref m, .ref q] (sF h F) (GnQ F ns x (sF h F)) := by
  obtain ⟨m1, m2, m3, m5, m10, m11, mlo, mn, mN, minj, mv, mt⟩ := M
  have K9 := K
  have K1 := K.1
  have hx := K.2.2.2
  change WA G d mJ4_getNode 0 [.ref m, .ref q, .retAddr 0, .retAddr 0, .retAddr 0, .retAddr 0, .retAddr 0, .retAddr 0] [] _ _
  rcases mt with ⟨t1, rfl, -⟩ | ⟨tb, k, B, t1, ⟨tI, tB⟩, hk, -, -⟩
  · refine wa_aloadV_n (pc := 0) (y := mJ4_getNode) dJ4_getNode_0 rfl (by first | exact rf_s _ | exact rf_n | exact rf_q _) ?_
    refine wf_get (k := 12) (l := 12) 0 dJ4_getNode_1 (by assumption) rfl q207 (Or.inl rfl) (Nat.le_of_ble_eq_true rfl) (Nat.le_of_ble_eq_true rfl) (by (repeat (first | exact updF_self _ _ _ _ | (apply updF_i; · decide) | (apply updF_a; · first | assumption | (apply Ne.symm; assumption) | omega) | (apply newF_a; · first | assumption | (apply Ne.symm; assumption) | omega) | exact newL_self (by rfl) | exact newF_self (by rfl) | (apply cpyF_a; · first | assumption | (apply Ne.symm; assumption) | omega))) <;> first | assumption | rfl) ?_
    refine wa_dup (pc := 4) (y := mJ4_getNode) dJ4_getNode_4 (by first | rfl | exact rf_cat _) ?_
    refine wa_astoreV_n (pc := 5) (y := mJ4_getNode) dJ4_getNode_5 (Nat.le_of_ble_eq_true rfl) (by first | rfl | (simp [okst, rf_cat] <;> assumption)) (by first | exact rf_s _ | exact rf_n | exact rf_q _) ?_
    change WA _ _ _ _ (List.set _ 2 _) _ _ _
    simp only [List.set_cons_zero, List.set_cons_succ]
    refine wa_ifnullN (pc := 6) (y := mJ4_getNode) 148 dJ4_getNode_6 rfl ?_
    refine wa_null (pc := 148) (y := mJ4_getNode) dJ4_getNode_148 ?_
    refine wa_areturnV (pc := 149) (y := mJ4_getNode) (.object "java/util/HashMap$Node") dJ4_getNode_149 rfl (Or.inl ⟨_, rfl⟩) (by first | exact rf_s _ | exact rf_n | exact rf_q _) ⟨none, rfl, rfl, fun p e => (by cases e), fun _ p hp => by cases hp⟩
  · have hk2 : 2 ^ k ≤ 2 ^ 8 := Nat.pow_le_pow_right (by decide) hk.2
    have hk0 : 0 < 2 ^ k := Nat.two_pow_pos k
    have hmod : x % 2 ^ k < 2 ^ k := Nat.mod_lt _ hk0
    obtain ⟨b1, b2, b3, b4⟩ := tB _ hmod
    have hno : (∀ p, p ∈ B (x % 2 ^ k) → kF F p ≠ x) → ∀ p, p ∈ ns → kF F p ≠ x := fun h9 p hp e => h9 p ((b4 p).mpr ⟨hp, by rw [e]⟩) e
    have hgt : ¬ Int32.ofNat (2 ^ k) ≤ 0 := fun e => by have := (iN_le (b := 0) (by omega) (by omega)).mp e; omega
    generalize B (x % 2 ^ k) = C at b1 b2 b3 b4 hno
    cases C with
    | nil =>
      refine wa_aloadV_n (pc := 0) (y := mJ4_getNode) dJ4_getNode_0 rfl (by first | exact rf_s _ | exact rf_n | exact rf_q _) ?_
      refine wf_get (k := 12) (l := 12) 0 dJ4_getNode_1 (by assumption) rfl q207 (Or.inl rfl) (Nat.le_of_ble_eq_true rfl) (Nat.le_of_ble_eq_true rfl) (by (repeat (first | exact updF_self _ _ _ _ | (apply updF_i; · decide) | (apply updF_a; · first | assumption | (apply Ne.symm; assumption) | omega) | (apply newF_a; · first | assumption | (apply Ne.symm; assumption) | omega) | exact newL_self (by rfl) | exact newF_self (by rfl) | (apply cpyF_a; · first | assumption | (apply Ne.symm; assumption) | omega))) <;> first | assumption | rfl) ?_
      refine wa_dup (pc := 4) (y := mJ4_getNode) dJ4_getNode_4 (by first | rfl | exact rf_cat _) ?_
      refine wa_astoreV_n (pc := 5) (y := mJ4_getNode) dJ4_getNode_5 (Nat.le_of_ble_eq_true rfl) (by first | rfl | (simp [okst, rf_cat] <;> assumption)) (by first | exact rf_s _ | exact rf_n | exact rf_q _) ?_
      change WA _ _ _ _ (List.set _ 2 _) _ _ _
      simp only [List.set_cons_zero, List.set_cons_succ]
      refine wa_ifnull (pc := 6) (y := mJ4_getNode) dJ4_getNode_6 ?_
      refine wa_aloadV_n (pc := 9) (y := mJ4_getNode) dJ4_getNode_9 rfl (by first | exact rf_s _ | exact rf_n | exact rf_q _) ?_
      refine wf_alen dJ4_getNode_10 (by assumption) (by decide) ?_
      refine wa_dup (pc := 11) (y := mJ4_getNode) dJ4_getNode_11 (by first | rfl | exact rf_cat _) ?_
      refine wa_istore (pc := 12) (y := mJ4_getNode) dJ4_getNode_12 (Nat.le_of_ble_eq_true rfl) (by first | rfl | (simp [okst, rf_cat] <;> assumption)) ?_
      simp only [List.set_cons_zero, List.set_cons_succ]
      refine wa_if_le (pc := 14) 148 dJ4_getNode_14 rfl (fun hb14 => absurd hb14 hgt) (fun hb14 => ?_)
      refine wa_aloadV_n (pc := 17) (y := mJ4_getNode) dJ4_getNode_17 rfl (by first | exact rf_s _ | exact rf_n | exact rf_q _) ?_
      refine wa_iload (pc := 18) (y := mJ4_getNode) dJ4_getNode_18 rfl ?_
      refine wa_iconst (pc := 20) (y := mJ4_getNode) (Int32.ofNat 1) dJ4_getNode_20 rfl ?_
      refine wa_isub (pc := 21) (y := mJ4_getNode) dJ4_getNode_21 ?_
      rw [iN_sub (by omega)]
      refine wa_aloadV_n (pc := 22) (y := mJ4_getNode) dJ4_getNode_22 rfl (by first | exact rf_s _ | exact rf_n | exact rf_q _) ?_
      refine wa_callS (pc := 23) (s_J4_hash (d := d - 1) (by omega) K9) dJ4_getNode_23 okJ4_hash q455 q456 rfl rfl (Nat.le_of_ble_eq_true rfl) (Nat.le_of_ble_eq_true rfl) (by omega) ?_
      rintro _ _ - - ⟨rfl, rfl⟩
      refine aft_v (pc2 := 26) ?_ rfl
      refine wa_dup (pc := 26) (y := mJ4_getNode) dJ4_getNode_26 (by first | rfl | exact rf_cat _) ?_
      refine wa_istore (pc := 27) (y := mJ4_getNode) dJ4_getNode_27 (Nat.le_of_ble_eq_true rfl) (by first | rfl | (simp [okst, rf_cat] <;> assumption)) ?_
      simp only [List.set_cons_zero, List.set_cons_succ]
      refine wa_iand (pc := 29) (y := mJ4_getNode) dJ4_getNode_29 ?_
      rw [iN_and, and_mod]
      refine wf_aaload dJ4_getNode_30 (by assumption) (by first | exact Or.inl rfl | exact Or.inr rfl) (by omega) (by (repeat (first | exact updF_self _ _ _ _ | (apply updF_i; · decide) | (apply updF_a; · first | assumption | (apply Ne.symm; assumption) | omega) | (apply newF_a; · first | assumption | (apply Ne.symm; assumption) | omega) | exact newL_self (by rfl) | exact newF_self (by rfl) | (apply cpyF_a; · first | assumption | (apply Ne.symm; assumption) | omega))) <;> first | assumption | rfl) ?_
      refine wa_dup (pc := 31) (y := mJ4_getNode) dJ4_getNode_31 (by first | rfl | exact rf_cat _) ?_
      refine wa_astoreV_n (pc := 32) (y := mJ4_getNode) dJ4_getNode_32 (Nat.le_of_ble_eq_true rfl) (by first | rfl | (simp [okst, rf_cat] <;> assumption)) (by first | exact rf_s _ | exact rf_n | exact rf_q _) ?_
      change WA _ _ _ _ (List.set _ 3 _) _ _ _
      simp only [List.set_cons_zero, List.set_cons_succ]
      refine wa_ifnullN (pc := 33) (y := mJ4_getNode) 148 dJ4_getNode_33 rfl ?_
      refine wa_null (pc := 148) (y := mJ4_getNode) dJ4_getNode_148 ?_
      refine wa_areturnV (pc := 149) (y := mJ4_getNode) (.object "java/util/HashMap$Node") dJ4_getNode_149 rfl (Or.inl ⟨_, rfl⟩) (by first | exact rf_s _ | exact rf_n | exact rf_q _) ⟨none, rfl, rfl, fun p e => (by cases e), fun _ => hno fun p hp => by cases hp⟩
    | cons f C =>
      have hfns : f ∈ ns := ((b4 f).mp (by simp)).1
      obtain ⟨fN, ⟨f0, fq, f1, fK⟩, f2⟩ := mN f hfns
      have fκ := fK.2.2.2
      have f3 : F f 3 = va_rf C.head? := by have := b2.chain.1; rwa [or_none_] at this
      have b1 : F tb (x % 2 ^ k) = .ref f := b1
      have hmem : ∀ p, p ∈ C → p ∈ ns := fun p hp => ((b4 p).mp (by simp [hp])).1
      have h71 : ∀ v7 : Value, kF F f ≠ x → WA G d mJ4_getNode 71 [.ref m, .ref q, .ref tb, .ref f, .retAddr 0, .int (Int32.ofNat (2 ^ k)), .int (Int32.ofNat x), v7] [] (sF h F) (GnQ F ns x (sF h F)) := by
        intro v7 hfx
        rcases b2 with lb | tbn
        · have fI := lb.1 f (by simp)
          have hch := lb.2.2
          have loop : ∀ (rest : List Nat) (e : Nat) (v7 : Value), (∀ p, p ∈ e :: rest → p ∈ ns) → ChE F 3 (e :: rest) none → (∀ p, p ∈ ns → kF F p = x → p ∈ e :: rest) →
              WA G d mJ4_getNode 99 [.ref m, .ref q, .ref tb, .ref f, .ref e, .int (Int32.ofNat (2 ^ k)), .int (Int32.ofNat x), v7] [] (sF h F) (GnQ F ns x (sF h F)) := by
            intro rest
            induction rest with
            | nil =>
              intro e v7 hsub hc hall
              have hens := hsub e (by simp)
              obtain ⟨eN, ⟨g0, eq, g1, eK⟩, g2⟩ := mN e hens
              have eκ := eK.2.2.2
              have g3 : F e 3 = va_rf none := hc.1
              refine wa_aloadV (pc := 99) (y := mJ4_getNode) dJ4_getNode_99 rfl (by first | exact rf_s _ | exact rf_n | exact rf_q _) ?_
              refine wn_get 0 dJ4_getNode_101 (by assumption) q1319 (Or.inl rfl) (Nat.le_of_ble_eq_true rfl) (by (repeat (first | exact updF_self _ _ _ _ | (apply updF_i; · decide) | (apply updF_a; · first | assumption | (apply Ne.symm; assumption) | omega) | (apply newF_a; · first | assumption | (apply Ne.symm; assumption) | omega) | exact newL_self (by rfl) | exact newF_self (by rfl) | (apply cpyF_a; · first | assumption | (apply Ne.symm; assumption) | omega))) <;> first | assumption | rfl) ?_
              refine wa_iload (pc := 104) (y := mJ4_getNode) dJ4_getNode_104 rfl ?_
              refine wa_icmp_ne (pc := 106) 137 dJ4_getNode_106 rfl (fun hb106 => ?_) (fun hb106 => ?_)
              · have hex : kF F e ≠ x := fun e9 => hb106 (by rw [e9])
                refine wa_aloadV (pc := 137) (y := mJ4_getNode) dJ4_getNode_137 rfl (by first | exact rf_s _ | exact rf_n | exact rf_q _) ?_
                refine wn_get 3 dJ4_getNode_139 (by assumption) q1337 (Or.inl rfl) (Nat.le_of_ble_eq_true rfl) (by (repeat (first | exact updF_self _ _ _ _ | (apply updF_i; · decide) | (apply updF_a; · first | assumption | (apply Ne.symm; assumption) | omega) | (apply newF_a; · first | assumption | (apply Ne.symm; assumption) | omega) | exact newL_self (by rfl) | exact newF_self (by rfl) | (apply cpyF_a; · first | assumption | (apply Ne.symm; assumption) | omega))) <;> first | assumption | rfl) ?_
                refine wa_dup (pc := 142) (y := mJ4_getNode) dJ4_getNode_142 (by first | rfl | exact rf_cat _) ?_
                refine wa_astoreV (pc := 143) (y := mJ4_getNode) dJ4_getNode_143 (Nat.le_of_ble_eq_true rfl) (by first | rfl | (simp [okst, rf_cat] <;> assumption)) (by first | exact rf_s _ | exact rf_n | exact rf_q _) ?_
                simp only [List.set_cons_zero, List.set_cons_succ]
                refine wa_ifnonnullN (pc := 145) (y := mJ4_getNode) dJ4_getNode_145 ?_
                refine wa_null (pc := 148) (y := mJ4_getNode) dJ4_getNode_148 ?_
                refine wa_areturnV (pc := 149) (y := mJ4_getNode) (.object "java/util/HashMap$Node") dJ4_getNode_149 rfl (Or.inl ⟨_, rfl⟩) (by first | exact rf_s _ | exact rf_n | exact rf_q _) ⟨none, rfl, rfl, fun p e9 => (by cases e9), fun _ p hp e9 => by have := hall p hp e9; simp at this; subst this; exact hex e9⟩
              · have hex := (iN_eq (by omega) (by omega)).mp hb106
                refine wa_aloadV (pc := 109) (y := mJ4_getNode) dJ4_getNode_109 rfl (by first | exact rf_s _ | exact rf_n | exact rf_q _) ?_
                refine wn_get 1 dJ4_getNode_111 (by assumption) q1326 (Or.inl rfl) (Nat.le_of_ble_eq_true rfl) (by (repeat (first | exact updF_self _ _ _ _ | (apply updF_i; · decide) | (apply updF_a; · first | assumption | (apply Ne.symm; assumption) | omega) | (apply newF_a; · first | assumption | (apply Ne.symm; assumption) | omega) | exact newL_self (by rfl) | exact newF_self (by rfl) | (apply cpyF_a; · first | assumption | (apply Ne.symm; assumption) | omega))) <;> first | assumption | rfl) ?_
                refine wa_dup (pc := 114) (y := mJ4_getNode) dJ4_getNode_114 (by first | rfl | exact rf_cat _) ?_
                refine wa_astoreV (pc := 115) (y := mJ4_getNode) dJ4_getNode_115 (Nat.le_of_ble_eq_true rfl) (by first | rfl | (simp [okst, rf_cat] <;> assumption)) (by first | exact rf_s _ | exact rf_n | exact rf_q _) ?_
                simp only [List.set_cons_zero, List.set_cons_succ]
                refine wa_aloadV_n (pc := 117) (y := mJ4_getNode) dJ4_getNode_117 rfl (by first | exact rf_s _ | exact rf_n | exact rf_q _) ?_
                refine wa_aceqV (pc := 118) 134 dJ4_getNode_118 rfl (by first | exact rf_s _ | exact rf_n | exact rf_q _) (by first | exact rf_s _ | exact rf_n | exact rf_q _) (fun hb118 => ?_) (fun hb118 => ?_)
                · refine wa_aloadV (pc := 134) (y := mJ4_getNode) dJ4_getNode_134 rfl (by first | exact rf_s _ | exact rf_n | exact rf_q _) ?_
                  refine wa_areturnV (pc := 136) (y := mJ4_getNode) (.object "java/util/HashMap$Node") dJ4_getNode_136 rfl (Or.inl ⟨_, rfl⟩) (by first | exact rf_s _ | exact rf_n | exact rf_q _) ⟨some e, rfl, rfl, fun p e9 => (by cases e9; exact ⟨hens, hex⟩), fun e9 => by cases e9⟩
                · refine wa_aloadV_n (pc := 121) (y := mJ4_getNode) dJ4_getNode_121 rfl (by first | exact rf_s _ | exact rf_n | exact rf_q _) ?_
                  refine wa_ifnull (pc := 122) (y := mJ4_getNode) dJ4_getNode_122 ?_
                  refine wa_aloadV_n (pc := 125) (y := mJ4_getNode) dJ4_getNode_125 rfl (by first | exact rf_s _ | exact rf_n | exact rf_q _) ?_
                  refine wa_aloadV (pc := 126) (y := mJ4_getNode) dJ4_getNode_126 rfl (by first | exact rf_s _ | exact rf_n | exact rf_q _) ?_
                  refine wa_callW (k := 4) (pc := 128) (owner := "java/lang/Object") (s_X5_equals (d := d - 1) K9 eK) dJ4_getNode_128 okX5_equals rfl q844 q846 (hDc_code q845 q878) (by decide) q853 q854 (sF_at (by assumption)) rfl rfl rfl rfl (Nat.le_of_ble_eq_true rfl) (Nat.le_of_ble_eq_true rfl) (by omega) ?_
                  rintro _ _ - - ⟨rfl, rfl⟩
                  refine aft_v (pc2 := 131) ?_ rfl
                  refine wa_if_eq (pc := 131) 137 dJ4_getNode_131 rfl (fun hb131 => absurd (bI_0.mp hb131) (by simp; omega)) (fun hb131 => ?_)
                  refine wa_aloadV (pc := 134) (y := mJ4_getNode) dJ4_getNode_134 rfl (by first | exact rf_s _ | exact rf_n | exact rf_q _) ?_
                  refine wa_areturnV (pc := 136) (y := mJ4_getNode) (.object "java/util/HashMap$Node") dJ4_getNode_136 rfl (Or.inl ⟨_, rfl⟩) (by first | exact rf_s _ | exact rf_n | exact rf_q _) ⟨some e, rfl, rfl, fun p e9 => (by cases e9; exact ⟨hens, hex⟩), fun e9 => by cases e9⟩
            | cons e2 rest ih =>
              intro e v7 hsub hc hall
              have hens := hsub e (by simp)
              obtain ⟨eN, ⟨g0, eq, g1, eK⟩, g2⟩ := mN e hens
              have eκ := eK.2.2.2
              have g3 : F e 3 = va_rf (some e2) := hc.1
              refine wa_aloadV (pc := 99) (y := mJ4_getNode) dJ4_getNode_99 rfl (by first | exact rf_s _ | exact rf_n | exact rf_q _) ?_
              refine wn_get 0 dJ4_getNode_101 (by assumption) q1319 (Or.inl rfl) (Nat.le_of_ble_eq_true rfl) (by (repeat (first | exact updF_self _ _ _ _ | (apply updF_i; · decide) | (apply updF_a; · first | assumption | (apply Ne.symm; assumption) | omega) | (apply newF_a; · first | assumption | (apply Ne.symm; assumption) | omega) | exact newL_self (by rfl) | exact newF_self (by rfl) | (apply cpyF_a; · first | assumption | (apply Ne.symm; assumption) | omega))) <;> first | assumption | rfl) ?_
              refine wa_iload (pc := 104) (y := mJ4_getNode) dJ4_getNode_104 rfl ?_
              refine wa_icmp_ne (pc := 106) 137 dJ4_getNode_106 rfl (fun hb106 => ?_) (fun hb106 => ?_)
              · have hex : kF F e ≠ x := fun e9 => hb106 (by rw [e9])
                refine wa_aloadV (pc := 137) (y := mJ4_getNode) dJ4_getNode_137 rfl (by first | exact rf_s _ | exact rf_n | exact rf_q _) ?_
                refine wn_get 3 dJ4_getNode_139 (by assumption) q1337 (Or.inl rfl) (Nat.le_of_ble_eq_true rfl) (by (repeat (first | exact updF_self _ _ _ _ | (apply updF_i; · decide) | (apply updF_a; · first | assumption | (apply Ne.symm; assumption) | omega) | (apply newF_a; · first | assumption | (apply Ne.symm; assumption) | omega) | exact newL_self (by rfl) | exact newF_self (by rfl) | (apply cpyF_a; · first | assumption | (apply Ne.symm; assumption) | omega))) <;> first | assumption | rfl) ?_
                refine wa_dup (pc := 142) (y := mJ4_getNode) dJ4_getNode_142 (by first | rfl | exact rf_cat _) ?_
                refine wa_astoreV (pc := 143) (y := mJ4_getNode) dJ4_getNode_143 (Nat.le_of_ble_eq_true rfl) (by first | rfl | (simp [okst, rf_cat] <;> assumption)) (by first | exact rf_s _ | exact rf_n | exact rf_q _) ?_
                simp only [List.set_cons_zero, List.set_cons_succ]
                refine wa_ifnonnull (pc := 145) (y := mJ4_getNode) 99 dJ4_getNode_145 rfl ?_
                exact ih e2 _ (fun p hp => hsub p (by simp [List.mem_cons.mp hp])) hc.2 (fun p hp e9 => (List.mem_cons.mp (hall p hp e9)).resolve_left (fun e8 => hex (by rw [← e8]; exact e9)))
              · have hex := (iN_eq (by omega) (by omega)).mp hb106
                refine wa_aloadV (pc := 109) (y := mJ4_getNode) dJ4_getNode_109 rfl (by first | exact rf_s _ | exact rf_n | exact rf_q _) ?_
                refine wn_get 1 dJ4_getNode_111 (by assumption) q1326 (Or.inl rfl) (Nat.le_of_ble_eq_true rfl) (by (repeat (first | exact updF_self _ _ _ _ | (apply updF_i; · decide) | (apply updF_a; · first | assumption | (apply Ne.symm; assumption) | omega) | (apply newF_a; · first | assumption | (apply Ne.symm; assumption) | omega) | exact newL_self (by rfl) | exact newF_self (by rfl) | (apply cpyF_a; · first | assumption | (apply Ne.symm; assumption) | omega))) <;> first | assumption | rfl) ?_
                refine wa_dup (pc := 114) (y := mJ4_getNode) dJ4_getNode_114 (by first | rfl | exact rf_cat _) ?_
                refine wa_astoreV (pc := 115) (y := mJ4_getNode) dJ4_getNode_115 (Nat.le_of_ble_eq_true rfl) (by first | rfl | (simp [okst, rf_cat] <;> assumption)) (by first | exact rf_s _ | exact rf_n | exact rf_q _) ?_
                simp only [List.set_cons_zero, List.set_cons_succ]
                refine wa_aloadV_n (pc := 117) (y := mJ4_getNode) dJ4_getNode_117 rfl (by first | exact rf_s _ | exact rf_n | exact rf_q _) ?_
                refine wa_aceqV (pc := 118) 134 dJ4_getNode_118 rfl (by first | exact rf_s _ | exact rf_n | exact rf_q _) (by first | exact rf_s _ | exact rf_n | exact rf_q _) (fun hb118 => ?_) (fun hb118 => ?_)
                · refine wa_aloadV (pc := 134) (y := mJ4_getNode) dJ4_getNode_134 rfl (by first | exact rf_s _ | exact rf_n | exact rf_q _) ?_
                  refine wa_areturnV (pc := 136) (y := mJ4_getNode) (.object "java/util/HashMap$Node") dJ4_getNode_136 rfl (Or.inl ⟨_, rfl⟩) (by first | exact rf_s _ | exact rf_n | exact rf_q _) ⟨some e, rfl, rfl, fun p e9 => (by cases e9; exact ⟨hens, hex⟩), fun e9 => by cases e9⟩
                · refine wa_aloadV_n (pc := 121) (y := mJ4_getNode) dJ4_getNode_121 rfl (by first | exact rf_s _ | exact rf_n | exact rf_q _) ?_
                  refine wa_ifnull (pc := 122) (y := mJ4_getNode) dJ4_getNode_122 ?_
                  refine wa_aloadV_n (pc := 125) (y := mJ4_getNode) dJ4_getNode_125 rfl (by first | exact rf_s _ | exact rf_n | exact rf_q _) ?_
                  refine wa_aloadV (pc := 126) (y := mJ4_getNode) dJ4_getNode_126 rfl (by first | exact rf_s _ | exact rf_n | exact rf_q _) ?_
                  refine wa_callW (k := 4) (pc := 128) (owner := "java/lang/Object") (s_X5_equals (d := d - 1) K9 eK) dJ4_getNode_128 okX5_equals rfl q844 q846 (hDc_code q845 q878) (by decide) q853 q854 (sF_at (by assumption)) rfl rfl rfl rfl (Nat.le_of_ble_eq_true rfl) (Nat.le_of_ble_eq_true rfl) (by omega) ?_
                  rintro _ _ - - ⟨rfl, rfl⟩
                  refine aft_v (pc2 := 131) ?_ rfl
                  refine wa_if_eq (pc := 131) 137 dJ4_getNode_131 rfl (fun hb131 => absurd (bI_0.mp hb131) (by simp; omega)) (fun hb131 => ?_)
                  refine wa_aloadV (pc := 134) (y := mJ4_getNode) dJ4_getNode_134 rfl (by first | exact rf_s _ | exact rf_n | exact rf_q _) ?_
                  refine wa_areturnV (pc := 136) (y := mJ4_getNode) (.object "java/util/HashMap$Node") dJ4_getNode_136 rfl (Or.inl ⟨_, rfl⟩) (by first | exact rf_s _ | exact rf_n | exact rf_q _) ⟨some e, rfl, rfl, fun p e9 => (by cases e9; exact ⟨hens, hex⟩), fun e9 => by cases e9⟩
          cases C with
          | nil =>
            have f3 : F f 3 = va_rf none := f3
            refine wa_aloadV_n (pc := 71) (y := mJ4_getNode) dJ4_getNode_71 rfl (by first | exact rf_s _ | exact rf_n | exact rf_q _) ?_
            refine wn_get 3 dJ4_getNode_72 (by assumption) q1337 (Or.inl rfl) (Nat.le_of_ble_eq_true rfl) (by (repeat (first | exact updF_self _ _ _ _ | (apply updF_i; · decide) | (apply updF_a; · first | assumption | (apply Ne.symm; assumption) | omega) | (apply newF_a; · first | assumption | (apply Ne.symm; assumption) | omega) | exact newL_self (by rfl) | exact newF_self (by rfl) | (apply cpyF_a; · first | assumption | (apply Ne.symm; assumption) | omega))) <;> first | assumption | rfl) ?_
            refine wa_dup (pc := 75) (y := mJ4_getNode) dJ4_getNode_75 (by first | rfl | exact rf_cat _) ?_
            refine wa_astoreV (pc := 76) (y := mJ4_getNode) dJ4_getNode_76 (Nat.le_of_ble_eq_true rfl) (by first | rfl | (simp [okst, rf_cat] <;> assumption)) (by first | exact rf_s _ | exact rf_n | exact rf_q _) ?_
            simp only [List.set_cons_zero, List.set_cons_succ]
            refine wa_ifnullN (pc := 78) (y := mJ4_getNode) 148 dJ4_getNode_78 rfl ?_
            refine wa_null (pc := 148) (y := mJ4_getNode) dJ4_getNode_148 ?_
            refine wa_areturnV (pc := 149) (y := mJ4_getNode) (.object "java/util/HashMap$Node") dJ4_getNode_149 rfl (Or.inl ⟨_, rfl⟩) (by first | exact rf_s _ | exact rf_n | exact rf_q _) ⟨none, rfl, rfl, fun p e => (by cases e), fun _ => hno fun p hp => by simp at hp; subst hp; exact hfx⟩
          | cons e C =>
            have f3 : F f 3 = va_rf (some e) := f3
            refine wa_aloadV_n (pc := 71) (y := mJ4_getNode) dJ4_getNode_71 rfl (by first | exact rf_s _ | exact rf_n | exact rf_q _) ?_
            refine wn_get 3 dJ4_getNode_72 (by assumption) q1337 (Or.inl rfl) (Nat.le_of_ble_eq_true rfl) (by (repeat (first | exact updF_self _ _ _ _ | (apply updF_i; · decide) | (apply updF_a; · first | assumption | (apply Ne.symm; assumption) | omega) | (apply newF_a; · first | assumption | (apply Ne.symm; assumption) | omega) | exact newL_self (by rfl) | exact newF_self (by rfl) | (apply cpyF_a; · first | assumption | (apply Ne.symm; assumption) | omega))) <;> first | assumption | rfl) ?_
            refine wa_dup (pc := 75) (y := mJ4_getNode) dJ4_getNode_75 (by first | rfl | exact rf_cat _) ?_
            refine wa_astoreV (pc := 76) (y := mJ4_getNode) dJ4_getNode_76 (Nat.le_of_ble_eq_true rfl) (by first | rfl | (simp [okst, rf_cat] <;> assumption)) (by first | exact rf_s _ | exact rf_n | exact rf_q _) ?_
            simp only [List.set_cons_zero, List.set_cons_succ]
            refine wa_ifnull (pc := 78) (y := mJ4_getNode) dJ4_getNode_78 ?_
            refine wa_aloadV_n (pc := 81) (y := mJ4_getNode) dJ4_getNode_81 rfl (by first | exact rf_s _ | exact rf_n | exact rf_q _) ?_
            refine wa_instNo (pc := 82) (y := mJ4_getNode) (k := 13) dJ4_getNode_82 (sF_at (by assumption)) rfl q879 (by decide +kernel) ?_
            refine wa_if_eq (pc := 85) 99 dJ4_getNode_85 rfl (fun hb85 => ?_) (fun hb85 => absurd rfl hb85)
            exact loop C e v7 hmem hch (fun p hp e9 => by have h8 := (b4 p).mpr ⟨hp, by rw [e9]⟩; exact (List.mem_cons.mp h8).resolve_left (fun e8 => hfx (by rw [← e8]; exact e9)))
        · have fI := tbn.is (p := f) (by simp)
          obtain ⟨dl, root, L, R, P, Co, lo, hi, rk, M, t0, tl⟩ := tbn
          have hsub : ∀ p, p ∈ f :: C → p ∈ ns := fun p hp => ((b4 p).mp hp).1
          refine wa_aloadV_n (pc := 71) (y := mJ4_getNode) dJ4_getNode_71 rfl (by first | exact rf_s _ | exact rf_n | exact rf_q _) ?_
          refine wn_get 3 dJ4_getNode_72 (by assumption) q1337 (Or.inl rfl) (Nat.le_of_ble_eq_true rfl) (by (repeat (first | exact updF_self _ _ _ _ | (apply updF_i; · decide) | (apply updF_a; · first | assumption | (apply Ne.symm; assumption) | omega) | (apply newF_a; · first | assumption | (apply Ne.symm; assumption) | omega) | exact newL_self (by rfl) | exact newF_self (by rfl) | (apply cpyF_a; · first | assumption | (apply Ne.symm; assumption) | omega))) <;> first | assumption | rfl) ?_
          refine wa_dup (pc := 75) (y := mJ4_getNode) dJ4_getNode_75 (by first | rfl | exact rf_cat _) ?_
          refine wa_astoreV (pc := 76) (y := mJ4_getNode) dJ4_getNode_76 (Nat.le_of_ble_eq_true rfl) (by first | rfl | (simp [okst, rf_cat] <;> assumption)) (by first | exact rf_s _ | exact rf_n | exact rf_q _) ?_
          simp only [List.set_cons_zero, List.set_cons_succ]
          refine wa_ifnullV (pc := 78) 148 dJ4_getNode_78 rfl (by first | exact rf_s _ | exact rf_n | exact rf_q _) (fun hb78 => ?_) (fun a78 hb78 => ?_)
          · refine wa_null (pc := 148) (y := mJ4_getNode) dJ4_getNode_148 ?_
            refine wa_areturnV (pc := 149) (y := mJ4_getNode) (.object "java/util/HashMap$Node") dJ4_getNode_149 rfl (Or.inl ⟨_, rfl⟩) (by first | exact rf_s _ | exact rf_n | exact rf_q _) ⟨none, rfl, rfl, fun p e => (by cases e), fun _ => hno fun p hp => by rw [head_none hb78] at hp; simp at hp; subst hp; exact hfx⟩
          · refine wa_aloadV_n (pc := 81) (y := mJ4_getNode) dJ4_getNode_81 rfl (by first | exact rf_s _ | exact rf_n | exact rf_q _) ?_
            refine wa_instS (pc := 82) (y := mJ4_getNode) (k := 14) dJ4_getNode_82 (sF_at (by assumption)) rfl q879 ?_
            refine wa_if_eq (pc := 85) 99 dJ4_getNode_85 rfl (fun hb85 => absurd hb85 (by decide)) (fun hb85 => ?_)
            refine wa_aloadV_n (pc := 88) (y := mJ4_getNode) dJ4_getNode_88 rfl (by first | exact rf_s _ | exact rf_n | exact rf_q _) ?_
            refine wa_castS (pc := 89) (y := mJ4_getNode) (k := 14) dJ4_getNode_89 (sF_at (by assumption)) rfl q879 ?_
            refine wa_iload (pc := 92) (y := mJ4_getNode) dJ4_getNode_92 rfl ?_
            refine wa_aloadV_n (pc := 94) (y := mJ4_getNode) dJ4_getNode_94 rfl (by first | exact rf_s _ | exact rf_n | exact rf_q _) ?_
            refine wa_callV (pc := 95) (s_J26_getTreeNode (d := d - 1) (by omega) t0 tl (fun a b ha hb => minj a b (hsub a ha) (hsub b hb)) (fun p hp => (mN p (hsub p hp)).2.1) K9 (by simp) hx) dJ4_getNode_95 okJ26_getTreeNode q880 q881 q882 (sF_at (by assumption)) rfl rfl rfl (Nat.le_of_ble_eq_true rfl) (Nat.le_of_ble_eq_true rfl) (by omega) ?_
            rintro _ _ - - ⟨o, rfl, rfl, o1, o2⟩
            refine aft_v (pc2 := 98) ?_ rfl
            refine wa_areturnV (pc := 98) (y := mJ4_getNode) (.object "java/util/HashMap$Node") dJ4_getNode_98 rfl (Or.inl ⟨_, rfl⟩) (by first | exact rf_s _ | exact rf_n | exact rf_q _) ⟨o, rfl, rfl, fun p e => ⟨hsub p (o1 p e).1, (o1 p e).2⟩, fun e => hno (o2 e)⟩
      refine wa_aloadV_n (pc := 0) (y := mJ4_getNode) dJ4_getNode_0 rfl (by first | exact rf_s _ | exact rf_n | exact rf_q _) ?_
      refine wf_get (k := 12) (l := 12) 0 dJ4_getNode_1 (by assumption) rfl q207 (Or.inl rfl) (Nat.le_of_ble_eq_true rfl) (Nat.le_of_ble_eq_true rfl) (by (repeat (first | exact updF_self _ _ _ _ | (apply updF_i; · decide) | (apply updF_a; · first | assumption | (apply Ne.symm; assumption) | omega) | (apply newF_a; · first | assumption | (apply Ne.symm; assumption) | omega) | exact newL_self (by rfl) | exact newF_self (by rfl) | (apply cpyF_a; · first | assumption | (apply Ne.symm; assumption) | omega))) <;> first | assumption | rfl) ?_
      refine wa_dup (pc := 4) (y := mJ4_getNode) dJ4_getNode_4 (by first | rfl | exact rf_cat _) ?_
      refine wa_astoreV_n (pc := 5) (y := mJ4_getNode) dJ4_getNode_5 (Nat.le_of_ble_eq_true rfl) (by first | rfl | (simp [okst, rf_cat] <;> assumption)) (by first | exact rf_s _ | exact rf_n | exact rf_q _) ?_
      change WA _ _ _ _ (List.set _ 2 _) _ _ _
      simp only [List.set_cons_zero, List.set_cons_succ]
      refine wa_ifnull (pc := 6) (y := mJ4_getNode) dJ4_getNode_6 ?_
      refine wa_aloadV_n (pc := 9) (y := mJ4_getNode) dJ4_getNode_9 rfl (by first | exact rf_s _ | exact rf_n | exact rf_q _) ?_
      refine wf_alen dJ4_getNode_10 (by assumption) (by decide) ?_
      refine wa_dup (pc := 11) (y := mJ4_getNode) dJ4_getNode_11 (by first | rfl | exact rf_cat _) ?_
      refine wa_istore (pc := 12) (y := mJ4_getNode) dJ4_getNode_12 (Nat.le_of_ble_eq_true rfl) (by first | rfl | (simp [okst, rf_cat] <;> assumption)) ?_
      simp only [List.set_cons_zero, List.set_cons_succ]
      refine wa_if_le (pc := 14) 148 dJ4_getNode_14 rfl (fun hb14 => absurd hb14 hgt) (fun hb14 => ?_)
      refine wa_aloadV_n (pc := 17) (y := mJ4_getNode) dJ4_getNode_17 rfl (by first | exact rf_s _ | exact rf_n | exact rf_q _) ?_
      refine wa_iload (pc := 18) (y := mJ4_getNode) dJ4_getNode_18 rfl ?_
      refine wa_iconst (pc := 20) (y := mJ4_getNode) (Int32.ofNat 1) dJ4_getNode_20 rfl ?_
      refine wa_isub (pc := 21) (y := mJ4_getNode) dJ4_getNode_21 ?_
      rw [iN_sub (by omega)]
      refine wa_aloadV_n (pc := 22) (y := mJ4_getNode) dJ4_getNode_22 rfl (by first | exact rf_s _ | exact rf_n | exact rf_q _) ?_
      refine wa_callS (pc := 23) (s_J4_hash (d := d - 1) (by omega) K9) dJ4_getNode_23 okJ4_hash q455 q456 rfl rfl (Nat.le_of_ble_eq_true rfl) (Nat.le_of_ble_eq_true rfl) (by omega) ?_
      rintro _ _ - - ⟨rfl, rfl⟩
      refine aft_v (pc2 := 26) ?_ rfl
      refine wa_dup (pc := 26) (y := mJ4_getNode) dJ4_getNode_26 (by first | rfl | exact rf_cat _) ?_
      refine wa_istore (pc := 27) (y := mJ4_getNode) dJ4_getNode_27 (Nat.le_of_ble_eq_true rfl) (by first | rfl | (simp [okst, rf_cat] <;> assumption)) ?_
      simp only [List.set_cons_zero, List.set_cons_succ]
      refine wa_iand (pc := 29) (y := mJ4_getNode) dJ4_getNode_29 ?_
      rw [iN_and, and_mod]
      refine wf_aaload dJ4_getNode_30 (by assumption) (by first | exact Or.inl rfl | exact Or.inr rfl) (by omega) (by (repeat (first | exact updF_self _ _ _ _ | (apply updF_i; · decide) | (apply updF_a; · first | assumption | (apply Ne.symm; assumption) | omega) | (apply newF_a; · first | assumption | (apply Ne.symm; assumption) | omega) | exact newL_self (by rfl) | exact newF_self (by rfl) | (apply cpyF_a; · first | assumption | (apply Ne.symm; assumption) | omega))) <;> first | assumption | rfl) ?_
      refine wa_dup (pc := 31) (y := mJ4_getNode) dJ4_getNode_31 (by first | rfl | exact rf_cat _) ?_
      refine wa_astoreV_n (pc := 32) (y := mJ4_getNode) dJ4_getNode_32 (Nat.le_of_ble_eq_true rfl) (by first | rfl | (simp [okst, rf_cat] <;> assumption)) (by first | exact rf_s _ | exact rf_n | exact rf_q _) ?_
      change WA _ _ _ _ (List.set _ 3 _) _ _ _
      simp only [List.set_cons_zero, List.set_cons_succ]
      refine wa_ifnull (pc := 33) (y := mJ4_getNode) dJ4_getNode_33 ?_
      refine wa_aloadV_n (pc := 36) (y := mJ4_getNode) dJ4_getNode_36 rfl (by first | exact rf_s _ | exact rf_n | exact rf_q _) ?_
      refine wn_get 0 dJ4_getNode_37 (by assumption) q1319 (Or.inl rfl) (Nat.le_of_ble_eq_true rfl) (by (repeat (first | exact updF_self _ _ _ _ | (apply updF_i; · decide) | (apply updF_a; · first | assumption | (apply Ne.symm; assumption) | omega) | (apply newF_a; · first | assumption | (apply Ne.symm; assumption) | omega) | exact newL_self (by rfl) | exact newF_self (by rfl) | (apply cpyF_a; · first | assumption | (apply Ne.symm; assumption) | omega))) <;> first | assumption | rfl) ?_
      refine wa_iload (pc := 40) (y := mJ4_getNode) dJ4_getNode_40 rfl ?_
      refine wa_icmp_ne (pc := 42) 71 dJ4_getNode_42 rfl (fun hb42 => ?_) (fun hb42 => ?_)
      · have hfx : kF F f ≠ x := fun e => hb42 (by rw [e])
        exact h71 _ hfx
      · have hfx := (iN_eq (by omega) (by omega)).mp hb42
        refine wa_aloadV_n (pc := 45) (y := mJ4_getNode) dJ4_getNode_45 rfl (by first | exact rf_s _ | exact rf_n | exact rf_q _) ?_
        refine wn_get 1 dJ4_getNode_46 (by assumption) q1326 (Or.inl rfl) (Nat.le_of_ble_eq_true rfl) (by (repeat (first | exact updF_self _ _ _ _ | (apply updF_i; · decide) | (apply updF_a; · first | assumption | (apply Ne.symm; assumption) | omega) | (apply newF_a; · first | assumption | (apply Ne.symm; assumption) | omega) | exact newL_self (by rfl) | exact newF_self (by rfl) | (apply cpyF_a; · first | assumption | (apply Ne.symm; assumption) | omega))) <;> first | assumption | rfl) ?_
        refine wa_dup (pc := 49) (y := mJ4_getNode) dJ4_getNode_49 (by first | rfl | exact rf_cat _) ?_
        refine wa_astoreV (pc := 50) (y := mJ4_getNode) dJ4_getNode_50 (Nat.le_of_ble_eq_true rfl) (by first | rfl | (simp [okst, rf_cat] <;> assumption)) (by first | exact rf_s _ | exact rf_n | exact rf_q _) ?_
        simp only [List.set_cons_zero, List.set_cons_succ]
        refine wa_aloadV_n (pc := 52) (y := mJ4_getNode) dJ4_getNode_52 rfl (by first | exact rf_s _ | exact rf_n | exact rf_q _) ?_
        refine wa_aceqV (pc := 53) 69 dJ4_getNode_53 rfl (by first | exact rf_s _ | exact rf_n | exact rf_q _) (by first | exact rf_s _ | exact rf_n | exact rf_q _) (fun hb53 => ?_) (fun hb53 => ?_)
        · refine wa_aloadV_n (pc := 69) (y := mJ4_getNode) dJ4_getNode_69 rfl (by first | exact rf_s _ | exact rf_n | exact rf_q _) ?_
          refine wa_areturnV (pc := 70) (y := mJ4_getNode) (.object "java/util/HashMap$Node") dJ4_getNode_70 rfl (Or.inl ⟨_, rfl⟩) (by first | exact rf_s _ | exact rf_n | exact rf_q _) ⟨some f, rfl, rfl, fun p e => (by cases e; exact ⟨hfns, hfx⟩), fun e => by cases e⟩
        · refine wa_aloadV_n (pc := 56) (y := mJ4_getNode) dJ4_getNode_56 rfl (by first | exact rf_s _ | exact rf_n | exact rf_q _) ?_
          refine wa_ifnull (pc := 57) (y := mJ4_getNode) dJ4_getNode_57 ?_
          refine wa_aloadV_n (pc := 60) (y := mJ4_getNode) dJ4_getNode_60 rfl (by first | exact rf_s _ | exact rf_n | exact rf_q _) ?_
          refine wa_aloadV (pc := 61) (y := mJ4_getNode) dJ4_getNode_61 rfl (by first | exact rf_s _ | exact rf_n | exact rf_q _) ?_
          refine wa_callW (k := 4) (pc := 63) (owner := "java/lang/Object") (s_X5_equals (d := d - 1) K9 fK) dJ4_getNode_63 okX5_equals rfl q844 q846 (hDc_code q845 q878) (by decide) q853 q854 (sF_at (by assumption)) rfl rfl rfl rfl (Nat.le_of_ble_eq_true rfl) (Nat.le_of_ble_eq_true rfl) (by omega) ?_
          rintro _ _ - - ⟨rfl, rfl⟩
          refine aft_v (pc2 := 66) ?_ rfl
          refine wa_if_eq (pc := 66) 71 dJ4_getNode_66 rfl (fun hb66 => absurd (bI_0.mp hb66) (by simp; omega)) (fun hb66 => ?_)
          refine wa_aloadV_n (pc := 69) (y := mJ4_getNode) dJ4_getNode_69 rfl (by first | exact rf_s _ | exact rf_n | exact rf_q _) ?_
          refine wa_areturnV (pc := 70) (y := mJ4_getNode) (.object "java/util/HashMap$Node") dJ4_getNode_70 rfl (Or.inl ⟨_, rfl⟩) (by first | exact rf_s _ | exact rf_n | exact rf_q _) ⟨some f, rfl, rfl, fun p e => (by cases e; exact ⟨hfns, hfx⟩), fun e => by cases e⟩
theorem s_J4_size (M : MapR h F m ns) : MA G d mJ4_size [.ref m] (sF h F) (fun r h' => r = .inl (some (.int (Int32.ofNat ns.length))) ∧ h' = sF h F) := by
  obtain ⟨m1, m2, -⟩ := M
  change WA G d mJ4_size 0 [.ref m] [] _ _
  refine wa_aloadV_n (pc := 0) (y := mJ4_size) dJ4_size_0 rfl (by first | exact rf_s _ | exact rf_n | exact rf_q _) ?_
  refine wf_get (k := 12) (l := 12) 2 dJ4_size_1 (by assumption) rfl q210 (Or.inl rfl) (Nat.le_of_ble_eq_true rfl) (Nat.le_of_ble_eq_true rfl) (by (repeat (first | exact updF_self _ _ _ _ | (apply updF_i; · decide) | (apply updF_a; · first | assumption | (apply Ne.symm; assumption) | omega) | (apply newF_a; · first | assumption | (apply Ne.symm; assumption) | omega) | exact newL_self (by rfl) | exact newF_self (by rfl) | (apply cpyF_a; · first | assumption | (apply Ne.symm; assumption) | omega))) <;> first | assumption | rfl) ?_
  refine wa_ireturn (pc := 4) (y := mJ4_size) .int dJ4_size_4 rfl rfl ⟨rfl, rfl⟩
theorem s_J4_containsKey (hd : 4 ≤ d) (M : MapR h F m ns) (K : KeyAt h F q x) : MA G d mJ4_containsKey [.ref m, .ref q] (sF h F) (fun r h' => ∃ b : Bool, r = .inl (some (.int (bI b))) ∧ h' = sF h F ∧ (b = true ↔ ∃ p, p ∈ ns ∧ kF F p = x)) := by
  have M9 := M
  obtain ⟨m1, m2, -⟩ := M
  change WA G d mJ4_containsKey 0 [.ref m, .ref q] [] _ _
  refine wa_aloadV_n (pc := 0) (y := mJ4_containsKey) dJ4_containsKey_0 rfl (by first | exact rf_s _ | exact rf_n | exact rf_q _) ?_
  refine wa_aloadV_n (pc := 1) (y := mJ4_containsKey) dJ4_containsKey_1 rfl (by first | exact rf_s _ | exact rf_n | exact rf_q _) ?_
  refine wa_callW (k := 12) (pc := 2) (owner := "java/util/HashMap") (s_J4_getNode (d := d - 1) (by omega) M9 K) dJ4_containsKey_2 okJ4_getNode rfl q2156 q3099 (hDc_code q453 q454) (by decide) q3100 q453 (sF_at (by assumption)) rfl rfl rfl rfl (Nat.le_of_ble_eq_true rfl) (Nat.le_of_ble_eq_true rfl) (by omega) ?_
  rintro _ _ - - ⟨o, rfl, rfl, o1, o2⟩
  refine aft_v (pc2 := 5) ?_ rfl
  refine wa_ifnullV (pc := 5) 12 dJ4_containsKey_5 rfl (by first | exact rf_s _ | exact rf_n | exact rf_q _) (fun hb5 => ?_) (fun a5 hb5 => ?_)
  · refine wa_iconst (pc := 12) (y := mJ4_containsKey) (Int32.ofNat 0) dJ4_containsKey_12 rfl ?_
    refine wa_ireturn (pc := 13) (y := mJ4_containsKey) .boolean dJ4_containsKey_13 rfl (by first | rfl | exact bI_nar _) (by first | exact ⟨false, rfl, rfl, by simp, fun ⟨p, h1, h2⟩ => absurd h2 (o2 hb5 p h1)⟩ | exact ⟨true, rfl, rfl, fun _ => ⟨_, o1 _ hb5⟩, fun _ => rfl⟩)
  · refine wa_iconst (pc := 8) (y := mJ4_containsKey) (Int32.ofNat 1) dJ4_containsKey_8 rfl ?_
    refine wa_goto (pc := 9) (y := mJ4_containsKey) 13 dJ4_containsKey_9 rfl ?_
    refine wa_ireturn (pc := 13) (y := mJ4_containsKey) .boolean dJ4_containsKey_13 rfl (by first | rfl | exact bI_nar _) (by first | exact ⟨false, rfl, rfl, by simp, fun ⟨p, h1, h2⟩ => absurd h2 (o2 hb5 p h1)⟩ | exact ⟨true, rfl, rfl, fun _ => ⟨_, o1 _ hb5⟩, fun _ => rfl⟩)
theorem s_J5_get (hd : 4 ≤ d) (M : MapR h F m ns) (K : KeyAt h F q x) : MA G d mJ5_get [.ref m, .ref q] (sF h F) (fun r h' => h' = sF h F ∧ ((∃ p, p ∈ ns ∧ kF F p = x ∧ r = .inl (some (.ref (vF F p)))) ∨ (∀ p, p ∈ ns → kF F p ≠ x) ∧ r = .inl (some .null))) := by
  have M9 := M
  obtain ⟨m1, m2, m3, m5, m10, m11, mlo, mn, mN, minj, mv, mt⟩ := M
  change WA G d mJ5_get 0 [.ref m, .ref q, .retAddr 0] [] _ _
  refine wa_aloadV_n (pc := 0) (y := mJ5_get) dJ5_get_0 rfl (by first | exact rf_s _ | exact rf_n | exact rf_q _) ?_
  refine wa_aloadV_n (pc := 1) (y := mJ5_get) dJ5_get_1 rfl (by first | exact rf_s _ | exact rf_n | exact rf_q _) ?_
  refine wa_callW (k := 12) (pc := 2) (owner := "java/util/HashMap") (s_J4_getNode (d := d - 1) (by omega) M9 K) dJ5_get_2 okJ4_getNode rfl q449 q450 (hDc_code q453 q454) (by decide) q452 q453 (sF_at (by assumption)) rfl rfl rfl rfl (Nat.le_of_ble_eq_true rfl) (Nat.le_of_ble_eq_true rfl) (by omega) ?_
  rintro _ _ - - ⟨o, rfl, rfl, o1, o2⟩
  refine aft_v (pc2 := 5) ?_ rfl
  refine wa_dup (pc := 5) (y := mJ5_get) dJ5_get_5 (by first | rfl | exact rf_cat _) ?_
  refine wa_astoreV_n (pc := 6) (y := mJ5_get) dJ5_get_6 (Nat.le_of_ble_eq_true rfl) (by first | rfl | (simp [okst, rf_cat] <;> assumption)) (by first | exact rf_s _ | exact rf_n | exact rf_q _) ?_
  change WA _ _ _ _ (List.set _ 2 _) _ _ _
  simp only [List.set_cons_zero, List.set_cons_succ]
  refine wa_ifnonnullV (pc := 7) 12 dJ5_get_7 rfl (by first | exact rf_s _ | exact rf_n | exact rf_q _) (fun a7 hb7 => ?_) (fun hb7 => ?_)
  · have hp := o1 _ hb7
    obtain ⟨pN, pK, pv⟩ := mN _ hp.1
    rw [hb7]
    refine wa_aloadV_n (pc := 12) (y := mJ5_get) dJ5_get_12 rfl (by first | exact rf_s _ | exact rf_n | exact rf_q _) ?_
    refine wf_get (k := 12) (l := 12) 10 dJ5_get_13 (by assumption) rfl q205 (Or.inl rfl) (Nat.le_of_ble_eq_true rfl) (Nat.le_of_ble_eq_true rfl) (by (repeat (first | exact updF_self _ _ _ _ | (apply updF_i; · decide) | (apply updF_a; · first | assumption | (apply Ne.symm; assumption) | omega) | (apply newF_a; · first | assumption | (apply Ne.symm; assumption) | omega) | exact newL_self (by rfl) | exact newF_self (by rfl) | (apply cpyF_a; · first | assumption | (apply Ne.symm; assumption) | omega))) <;> first | assumption | rfl) ?_
    refine wa_if_eq (pc := 16) 24 dJ5_get_16 rfl (fun hb16 => ?_) (fun hb16 => absurd rfl hb16)
    refine wa_aloadV_n (pc := 24) (y := mJ5_get) dJ5_get_24 rfl (by first | exact rf_s _ | exact rf_n | exact rf_q _) ?_
    refine wn_get 2 dJ5_get_25 (by assumption) q1332 (Or.inl rfl) (Nat.le_of_ble_eq_true rfl) (by (repeat (first | exact updF_self _ _ _ _ | (apply updF_i; · decide) | (apply updF_a; · first | assumption | (apply Ne.symm; assumption) | omega) | (apply newF_a; · first | assumption | (apply Ne.symm; assumption) | omega) | exact newL_self (by rfl) | exact newF_self (by rfl) | (apply cpyF_a; · first | assumption | (apply Ne.symm; assumption) | omega))) <;> first | assumption | rfl) ?_
    refine wa_areturnV (pc := 28) (y := mJ5_get) (.object "java/lang/Object") dJ5_get_28 rfl (Or.inl ⟨_, rfl⟩) (by first | exact rf_s _ | exact rf_n | exact rf_q _) ⟨rfl, Or.inl ⟨_, hp.1, hp.2, rfl⟩⟩
  · refine wa_null (pc := 10) (y := mJ5_get) dJ5_get_10 ?_
    refine wa_areturnV (pc := 11) (y := mJ5_get) (.object "java/lang/Object") dJ5_get_11 rfl (Or.inl ⟨_, rfl⟩) (by first | exact rf_s _ | exact rf_n | exact rf_q _) ⟨rfl, Or.inr ⟨o2 hb7, rfl⟩⟩
end MAP
