/-! ===== CueStackModel: its state on the heap; the leaf methods ===== -/
/-- contents of its int arrays and scalars, by the number of the field -/
abbrev MS : Type := (Nat → Nat → Int32) × (Nat → Int32)
def mF (m : Nat) (σ : MS) : List Value := [.ref (m+1), .ref (m+2), .ref (m+3), .int (σ.2 3), .ref (m+4), .int (σ.2 5), .int (σ.2 6), .int (σ.2 7), .ref (m+5), .ref (m+6), .int (σ.2 10), .int (σ.2 11), .int (σ.2 12), .int (σ.2 13), .ref (m+7), .ref (m+8), .int (σ.2 16)]
def mC (m : Nat) (f : Nat → Int32) (σ : MS) (j : Nat) : AC := match j with
  | 0 => (5, mF m σ)
  | 1 => (32, arI 462 f)
  | 2 => (32, arI 462 (σ.1 1))
  | 3 => (32, arI 462 (σ.1 2))
  | 4 => (32, arI 2772 (σ.1 4))
  | 5 => (32, arI 144 (σ.1 8))
  | 6 => (34, arI 60 (σ.1 9))
  | 7 => (34, arI 60 (σ.1 14))
  | _ => (32, arI 180 (σ.1 15))
def mH (h : AH) (m : Nat) (f : Nat → Int32) (σ : MS) : AH := (h.1, h.2.1, fun a => if m ≤ a ∧ a < m + 9 then some (mC m f σ (a - m)) else h.2.2 a)
def mA (σ : MS) (i : Nat) (g : Nat → Int32) : MS := (fun k => if k = i then g else σ.1 k, σ.2)
def mV (σ : MS) (i : Nat) (v : Int32) : MS := (σ.1, fun k => if k = i then v else σ.2 k)
theorem mA_1 (σ : MS) (i k : Nat) (g : Nat → Int32) : (mA σ i g).1 k = if k = i then g else σ.1 k := rfl
theorem mA_2 (σ : MS) (i : Nat) (g : Nat → Int32) : (mA σ i g).2 = σ.2 := rfl
theorem mV_1 (σ : MS) (i : Nat) (v : Int32) : (mV σ i v).1 = σ.1 := rfl
theorem mV_2 (σ : MS) (i k : Nat) (v : Int32) : (mV σ i v).2 k = if k = i then v else σ.2 k := rfl
theorem mA_A (σ : MS) (i : Nat) (g g2 : Nat → Int32) : mA (mA σ i g) i g2 = mA σ i g2 := by
  unfold mA
  congr 1
  funext k
  by_cases e : k = i <;> simp [e]
theorem mV_V (σ : MS) (i : Nat) (v v2 : Int32) : mV (mV σ i v) i v2 = mV σ i v2 := by
  unfold mV
  congr 1
  funext k
  by_cases e : k = i <;> simp [e]
theorem mA_id (σ : MS) (i : Nat) : mA σ i (σ.1 i) = σ := by
  unfold mA
  obtain ⟨a, b⟩ := σ
  congr 1
  funext k
  by_cases e : k = i <;> simp [e]
theorem mH_c (h : AH) (m : Nat) (f : Nat → Int32) (σ : MS) (j : Nat) (hj : j < 9) : (mH h m f σ).2.2 (m + j) = some (mC m f σ j) := by
  show (if _ then _ else _) = _
  rw [if_pos (by omega), Nat.add_sub_cancel_left]
theorem mH_w (h : AH) (m : Nat) (f f2 : Nat → Int32) (σ σ2 : MS) (j : Nat) (hj : j < 9) (hs : ∀ k, k < 9 → k ≠ j → mC m f2 σ2 k = mC m f σ k) : ah_upd (mH h m f σ) (m + j) (mC m f2 σ2 j) = mH h m f2 σ2 := by
  unfold ah_upd mH
  refine Prod.ext rfl (Prod.ext rfl ?_)
  funext b
  show (if b = m + j then _ else if m ≤ b ∧ b < m + 9 then _ else _) = if m ≤ b ∧ b < m + 9 then _ else _
  by_cases e : b = m + j
  · rw [if_pos e, if_pos (by omega), e, Nat.add_sub_cancel_left]
  · rw [if_neg e]
    by_cases e2 : m ≤ b ∧ b < m + 9
    · rw [if_pos e2, if_pos e2, hs (b - m) (by omega) (by omega)]
    · rw [if_neg e2, if_neg e2]
theorem mH_cg {h : AH} {m : Nat} {f g : Nat → Int32} {σ : MS} (e : ∀ j, j < 462 → f j = g j) : mH h m f σ = mH h m g σ := by
  have e2 : arI 462 f = arI 462 g := List.map_congr_left fun j hj => by rw [e j (List.mem_range.mp hj)]
  have e3 : ∀ j, mC m f σ j = mC m g σ j := fun j => by
    match j with
    | 0 => rfl
    | 1 => show (32, arI 462 f) = (32, arI 462 g); rw [e2]
    | 2 => rfl
    | 3 => rfl
    | 4 => rfl
    | 5 => rfl
    | 6 => rfl
    | 7 => rfl
    | _ + 8 => rfl
  unfold mH
  simp only [e3]
theorem mH_cA {h : AH} {m i n : Nat} {f g g2 : Nat → Int32} {σ : MS} (hi : i = 1 ∧ n = 462 ∨ i = 2 ∧ n = 462 ∨ i = 4 ∧ n = 2772 ∨ i = 8 ∧ n = 144) (e : ∀ j, j < n → g j = g2 j) : mH h m f (mA σ i g) = mH h m f (mA σ i g2) := by
  have e2 : arI n g = arI n g2 := List.map_congr_left fun j hj => by rw [e j (List.mem_range.mp hj)]
  have e3 : ∀ j, mC m f (mA σ i g) j = mC m f (mA σ i g2) j := fun j => by
    rcases hi with ⟨rfl, rfl⟩ | ⟨rfl, rfl⟩ | ⟨rfl, rfl⟩ | ⟨rfl, rfl⟩
    · match j with
      | 2 => show (32, arI 462 g) = (32, arI 462 g2); rw [e2]
      | 0 => rfl
      | 1 => rfl
      | 3 => rfl
      | 4 => rfl
      | 5 => rfl
      | 6 => rfl
      | 7 => rfl
      | _ + 8 => rfl
    · match j with
      | 3 => show (32, arI 462 g) = (32, arI 462 g2); rw [e2]
      | 0 => rfl
      | 1 => rfl
      | 2 => rfl
      | 4 => rfl
      | 5 => rfl
      | 6 => rfl
      | 7 => rfl
      | _ + 8 => rfl
    · match j with
      | 4 => show (32, arI 2772 g) = (32, arI 2772 g2); rw [e2]
      | 0 => rfl
      | 1 => rfl
      | 3 => rfl
      | 2 => rfl
      | 5 => rfl
      | 6 => rfl
      | 7 => rfl
      | _ + 8 => rfl
    · match j with
      | 5 => show (32, arI 144 g) = (32, arI 144 g2); rw [e2]
      | 0 => rfl
      | 1 => rfl
      | 3 => rfl
      | 4 => rfl
      | 2 => rfl
      | 6 => rfl
      | 7 => rfl
      | _ + 8 => rfl
  unfold mH
  simp only [e3]
section
variable {h : AH} {m : Nat} {f : Nat → Int32} {σ : MS}
theorem mH_o : (mH h m f σ).2.2 m = some (5, mF m σ) := mH_c h m f σ 0 (by omega)
theorem mH_1 : (mH h m f σ).2.2 (m+1) = some (32, arI 462 f) := mH_c h m f σ 1 (by omega)
theorem mH_2 : (mH h m f σ).2.2 (m+2) = some (32, arI 462 (σ.1 1)) := mH_c h m f σ 2 (by omega)
theorem mH_3 : (mH h m f σ).2.2 (m+3) = some (32, arI 462 (σ.1 2)) := mH_c h m f σ 3 (by omega)
theorem mH_4 : (mH h m f σ).2.2 (m+4) = some (32, arI 2772 (σ.1 4)) := mH_c h m f σ 4 (by omega)
theorem mH_5 : (mH h m f σ).2.2 (m+5) = some (32, arI 144 (σ.1 8)) := mH_c h m f σ 5 (by omega)
theorem mH_6 : (mH h m f σ).2.2 (m+6) = some (34, arI 60 (σ.1 9)) := mH_c h m f σ 6 (by omega)
theorem mH_7 : (mH h m f σ).2.2 (m+7) = some (34, arI 60 (σ.1 14)) := mH_c h m f σ 7 (by omega)
theorem mH_8 : (mH h m f σ).2.2 (m+8) = some (32, arI 180 (σ.1 15)) := mH_c h m f σ 8 (by omega)
theorem mW_1 (g : Nat → Int32) : ah_upd (mH h m f σ) (m+1) (32, arI 462 g) = mH h m g σ := mH_w h m f g σ σ 1 (by omega) (by intro k hk hn; match k, hk, hn with | 0, _, _ => rfl | 2, _, _ => rfl | 3, _, _ => rfl | 4, _, _ => rfl | 5, _, _ => rfl | 6, _, _ => rfl | 7, _, _ => rfl | 8, _, _ => rfl)
theorem mW_2 (g : Nat → Int32) : ah_upd (mH h m f σ) (m+2) (32, arI 462 g) = mH h m f (mA σ 1 g) := mH_w h m f f σ (mA σ 1 g) 2 (by omega) (by intro k hk hn; match k, hk, hn with | 0, _, _ => rfl | 1, _, _ => rfl | 3, _, _ => rfl | 4, _, _ => rfl | 5, _, _ => rfl | 6, _, _ => rfl | 7, _, _ => rfl | 8, _, _ => rfl)
theorem mW_3 (g : Nat → Int32) : ah_upd (mH h m f σ) (m+3) (32, arI 462 g) = mH h m f (mA σ 2 g) := mH_w h m f f σ (mA σ 2 g) 3 (by omega) (by intro k hk hn; match k, hk, hn with | 0, _, _ => rfl | 2, _, _ => rfl | 1, _, _ => rfl | 4, _, _ => rfl | 5, _, _ => rfl | 6, _, _ => rfl | 7, _, _ => rfl | 8, _, _ => rfl)
theorem mW_4 (g : Nat → Int32) : ah_upd (mH h m f σ) (m+4) (32, arI 2772 g) = mH h m f (mA σ 4 g) := mH_w h m f f σ (mA σ 4 g) 4 (by omega) (by intro k hk hn; match k, hk, hn with | 0, _, _ => rfl | 2, _, _ => rfl | 3, _, _ => rfl | 1, _, _ => rfl | 5, _, _ => rfl | 6, _, _ => rfl | 7, _, _ => rfl | 8, _, _ => rfl)
theorem mW_5 (g : Nat → Int32) : ah_upd (mH h m f σ) (m+5) (32, arI 144 g) = mH h m f (mA σ 8 g) := mH_w h m f f σ (mA σ 8 g) 5 (by omega) (by intro k hk hn; match k, hk, hn with | 0, _, _ => rfl | 2, _, _ => rfl | 3, _, _ => rfl | 4, _, _ => rfl | 1, _, _ => rfl | 6, _, _ => rfl | 7, _, _ => rfl | 8, _, _ => rfl)
theorem mW_6 (g : Nat → Int32) : ah_upd (mH h m f σ) (m+6) (34, arI 60 g) = mH h m f (mA σ 9 g) := mH_w h m f f σ (mA σ 9 g) 6 (by omega) (by intro k hk hn; match k, hk, hn with | 0, _, _ => rfl | 2, _, _ => rfl | 3, _, _ => rfl | 4, _, _ => rfl | 5, _, _ => rfl | 1, _, _ => rfl | 7, _, _ => rfl | 8, _, _ => rfl)
theorem mW_7 (g : Nat → Int32) : ah_upd (mH h m f σ) (m+7) (34, arI 60 g) = mH h m f (mA σ 14 g) := mH_w h m f f σ (mA σ 14 g) 7 (by omega) (by intro k hk hn; match k, hk, hn with | 0, _, _ => rfl | 2, _, _ => rfl | 3, _, _ => rfl | 4, _, _ => rfl | 5, _, _ => rfl | 6, _, _ => rfl | 1, _, _ => rfl | 8, _, _ => rfl)
theorem mW_8 (g : Nat → Int32) : ah_upd (mH h m f σ) (m+8) (32, arI 180 g) = mH h m f (mA σ 15 g) := mH_w h m f f σ (mA σ 15 g) 8 (by omega) (by intro k hk hn; match k, hk, hn with | 0, _, _ => rfl | 2, _, _ => rfl | 3, _, _ => rfl | 4, _, _ => rfl | 5, _, _ => rfl | 6, _, _ => rfl | 7, _, _ => rfl | 1, _, _ => rfl | k + 8, hk, hn => exact absurd (by omega : k + 8 = 8) hn)
theorem mW_o (i : Nat) (v : Int32) (hi : (mF m σ).set i (.int v) = mF m (mV σ i v)) : ah_upd (mH h m f σ) m (5, (mF m σ).set i (.int v)) = mH h m f (mV σ i v) := by
  rw [hi]
  exact mH_w h m f f σ (mV σ i v) 0 (by omega) (by intro k hk hn; match k, hk, hn with | 0, _, hn => exact absurd rfl hn | 1, _, _ => rfl | 2, _, _ => rfl | 3, _, _ => rfl | 4, _, _ => rfl | 5, _, _ => rfl | 6, _, _ => rfl | 7, _, _ => rfl | k + 8, hk, _ => (obtain rfl : k = 0 := by omega); rfl)
end
/-! the pure side: places, ranges -/
def inb (v lo hi : Int32) : Bool := decide (lo ≤ v) && decide (v ≤ hi)
/-- how many cues, how many instructions -/
def plg (f : Nat → Int32) (cue : Int32) : Nat → Nat → Option Nat
  | 0, _ => none
  | t + 1, k => if f (18 + 12 * k) = cue then some k else plg f cue t (k + 1)
def pl (f : Nat → Int32) (cue : Int32) : Option Nat := plg f cue (u (f 0)) 0
theorem plg_some {f : Nat → Int32} {cue : Int32} : ∀ {t k p : Nat}, plg f cue t k = some p → k ≤ p ∧ p < k + t ∧ f (18 + 12 * p) = cue
  | 0, _, _, h => by cases h
  | t + 1, k, p, h => by
    unfold plg at h
    split at h
    · rename_i e
      cases h
      exact ⟨Nat.le_refl _, by omega, e⟩
    · obtain ⟨a, b, c⟩ := plg_some h
      exact ⟨by omega, by omega, c⟩
theorem pl_some {f : Nat → Int32} {cue : Int32} {p : Nat} (h : pl f cue = some p) : p < u (f 0) ∧ f (18 + 12 * p) = cue := by
  obtain ⟨-, b, c⟩ := plg_some h
  exact ⟨by omega, c⟩
theorem plg_none {f : Nat → Int32} {cue : Int32} : ∀ {t k : Nat}, plg f cue t k = none → ∀ p, k ≤ p → p < k + t → f (18 + 12 * p) ≠ cue
  | 0, _, _ => fun p h1 h2 => by omega
  | t + 1, k, h => fun p h1 h2 => by
    unfold plg at h
    split at h
    · cases h
    · rename_i e
      by_cases ep : p = k
      · rw [ep]; exact e
      · exact plg_none h p (by omega) (by omega)
def isC (f : Nat → Int32) (cue : Int32) : Bool := (pl f cue).isSome
def isBl (f : Nat → Int32) (p : Nat) : Bool := decide (f (18 + 12 * p + 2) = 1)
def gvg (f : Nat → Int32) (cue ch : Int32) : Nat → Nat → Option Nat
  | 0, _ => none
  | t + 1, k => if f (162 + 4 * k) = cue ∧ f (162 + 4 * k + 1) = ch then some k else gvg f cue ch t (k + 1)
def gv (f : Nat → Int32) (cue ch : Int32) : Option Nat := gvg f cue ch (u (f 1)) 0
theorem gvg_some {f : Nat → Int32} {cue ch : Int32} : ∀ {t k p : Nat}, gvg f cue ch t k = some p → k ≤ p ∧ p < k + t ∧ f (162 + 4 * p) = cue ∧ f (162 + 4 * p + 1) = ch
  | 0, _, _, h => by cases h
  | t + 1, k, p, h => by
    unfold gvg at h
    split at h
    · rename_i e
      cases h
      exact ⟨Nat.le_refl _, by omega, e⟩
    · obtain ⟨a, b, c⟩ := gvg_some h
      exact ⟨by omega, by omega, c⟩
theorem gv_some {f : Nat → Int32} {cue ch : Int32} {p : Nat} (h : gv f cue ch = some p) : p < u (f 1) ∧ f (162 + 4 * p) = cue ∧ f (162 + 4 * p + 1) = ch := by
  obtain ⟨-, b, c⟩ := gvg_some h
  exact ⟨by omega, c⟩
/-- one step of a level, and the level after some places -/
def lvS (f : Nat → Int32) (c k : Nat) (l : Int32) : Int32 := match gv f (f (18 + 12 * k)) (Int32.ofNat c) with
  | some i => if f (162 + 4 * i + 2) = -1 then f (6 + c) else f (162 + 4 * i + 2)
  | none => if isBl f k then f (6 + c) else l
def lvN (f : Nat → Int32) (c : Nat) : Nat → Int32
  | 0 => f (6 + c)
  | k + 1 => lvS f c k (lvN f c k)
def mvs (f : Nat → Int32) (p c : Nat) : Bool := decide (lvN f c (p + 1) ≠ lvN f c p)
def ptO (f : Nat → Int32) (cue : Int32) (c : Nat) : Nat := match gv f cue (Int32.ofNat c) with
  | some i => u (f (162 + 4 * i + 3))
  | none => 0
/-- what holds of every state -/
def Inv (f : Nat → Int32) : Prop := u (f 0) ≤ 12 ∧ u (f 1) ≤ 60 ∧
  (∀ i, i < u (f 1) → u (f (162 + 4 * i + 3)) < 4 ∧ u (f (162 + 4 * i + 1)) < 12 ∧ ∃ p, p < u (f 0) ∧ f (18 + 12 * p) = f (162 + 4 * i)) ∧
  (∀ i j, i < j → j < u (f 1) → f (162 + 4 * i) = f (162 + 4 * j) → f (162 + 4 * i + 1) ≠ f (162 + 4 * j + 1)) ∧
  (∀ k, k < u (f 0) → (1 ≤ f (18 + 12 * k) ∧ f (18 + 12 * k) ≤ 99) ∧ (f (18 + 12 * k + 1) = -1 ∨ 1 ≤ f (18 + 12 * k + 1)) ∧ (f (18 + 12 * k + 2) = 0 ∨ f (18 + 12 * k + 2) = 1) ∧ (f (18 + 12 * k + 3) = 0 ∨ f (18 + 12 * k + 3) = 1)) ∧
  ∀ j k, j < k → k < u (f 0) → f (18 + 12 * j) < f (18 + 12 * k)
theorem ptO_lt {f : Nat → Int32} (hI : Inv f) (cue : Int32) (c : Nat) : ptO f cue c < 4 := by
  unfold ptO
  split
  · rename_i i e
    exact (hI.2.2.1 i (gv_some e).1).1
  · omega
def nxg (f : Nat → Int32) (n : Int32) : Nat → Nat → Int32
  | 0, _ => 0
  | t + 1, k => if n < f (18 + 12 * k) then f (18 + 12 * k) else nxg f n t (k + 1)
def nx (f : Nat → Int32) (n : Int32) : Int32 := nxg f n (u (f 0)) 0
def ahN (f : Nat → Int32) (n : Int32) : Nat → Int32
  | 0 => 0
  | k + 1 => if f (18 + 12 * k) < n then f (18 + 12 * k) else ahN f n k
def cntN (f : Nat → Int32) (cue : Int32) : Nat → Int32
  | 0 => 0
  | k + 1 => cntN f cue k + (if f (162 + 4 * k) = cue then 1 else 0)
/-- the present level of a fade, of its five numbers -/
def nowV (a b g dl tm : Int32) : Int32 := if g < dl + tm then if dl < g then a + (b - a) * (g - dl) / tm else a else b
def nowF (f : Nat → Int32) (c : Nat) : Int32 := nowV (f (402 + 5 * c)) (f (402 + 5 * c + 1)) (f (402 + 5 * c + 2)) (f (402 + 5 * c + 3)) (f (402 + 5 * c + 4))
def isF (f : Nat → Int32) (c : Nat) : Bool := decide (f (402 + 5 * c + 2) < f (402 + 5 * c + 3) + f (402 + 5 * c + 4))
section MODEL0
variable {G : GG} {d : Nat} {h : AH} {m : Nat} {f : Nat → Int32} {σ : MS}
theorem s_X6_at {k : Nat} : MA G d mX6_at [.int (Int32.ofNat k)] h (fun r h' => r = .inl (some (.int (Int32.ofNat (18 + 12 * k)))) ∧ h' = h) := by
  show WA _ _ _ 0 [.int _] [] _ _
  refine wa_bipush (pc := 0) (y := mX6_at) (Int32.ofNat 18) dX6_at_0 rfl ?_
  refine wa_bipush (pc := 2) (y := mX6_at) (Int32.ofNat 12) dX6_at_2 rfl ?_
  refine wa_iload_n (pc := 4) (y := mX6_at) dX6_at_4 rfl ?_
  first | with_reducible refine wa_imulN (pc := 5) (y := mX6_at) dX6_at_5 ?_ | refine wa_imul (pc := 5) (y := mX6_at) dX6_at_5 ?_
  first | with_reducible refine wa_iaddN (pc := 6) (y := mX6_at) dX6_at_6 ?_ | refine wa_iadd (pc := 6) (y := mX6_at) dX6_at_6 ?_
  exact wa_ireturn (pc := 7) (y := mX6_at) .int dX6_at_7 rfl rfl ⟨rfl, rfl⟩
theorem s_X6_fade {k : Nat} : MA G d mX6_fade [.int (Int32.ofNat k)] h (fun r h' => r = .inl (some (.int (Int32.ofNat (402 + 5 * k)))) ∧ h' = h) := by
  show WA _ _ _ 0 [.int _] [] _ _
  refine wa_sipush (pc := 0) (y := mX6_fade) (Int32.ofNat 402) dX6_fade_0 rfl ?_
  refine wa_iconst (pc := 3) (y := mX6_fade) (Int32.ofNat 5) dX6_fade_3 rfl ?_
  refine wa_iload_n (pc := 4) (y := mX6_fade) dX6_fade_4 rfl ?_
  first | with_reducible refine wa_imulN (pc := 5) (y := mX6_fade) dX6_fade_5 ?_ | refine wa_imul (pc := 5) (y := mX6_fade) dX6_fade_5 ?_
  first | with_reducible refine wa_iaddN (pc := 6) (y := mX6_fade) dX6_fade_6 ?_ | refine wa_iadd (pc := 6) (y := mX6_fade) dX6_fade_6 ?_
  exact wa_ireturn (pc := 7) (y := mX6_fade) .int dX6_fade_7 rfl rfl ⟨rfl, rfl⟩
theorem s_X6_in {v lo hi : Int32} : MA G d mX6_in [.int v, .int lo, .int hi] h (fun r h' => r = .inl (some (.int (bI (inb v lo hi)))) ∧ h' = h) := by
  show WA _ _ _ 0 [.int v, .int lo, .int hi] [] _ _
  refine wa_iload_n (pc := 0) (y := mX6_in) dX6_in_0 rfl ?_
  refine wa_iload_n (pc := 1) (y := mX6_in) dX6_in_1 rfl ?_
  refine wa_icmp_lt (pc := 2) 14 dX6_in_2 rfl (fun hb2 => ?_) (fun hb2 => ?_)
  · refine wa_iconst (pc := 14) (y := mX6_in) (Int32.ofNat 0) dX6_in_14 rfl ?_
    exact wa_ireturn (pc := 15) (y := mX6_in) .boolean dX6_in_15 rfl rfl ⟨by simp only [inb, bI, Bool.and_eq_true, decide_eq_true_eq]; simp only [Int32.le_iff_toInt_le, Int32.lt_iff_toInt_lt] at *; first | (rw [if_pos (by omega)]; rfl) | (rw [if_neg (by omega)]; rfl), rfl⟩
  · refine wa_iload_n (pc := 5) (y := mX6_in) dX6_in_5 rfl ?_
    refine wa_iload_n (pc := 6) (y := mX6_in) dX6_in_6 rfl ?_
    refine wa_icmp_gt (pc := 7) 14 dX6_in_7 rfl (fun hb7 => ?_) (fun hb7 => ?_)
    · refine wa_iconst (pc := 14) (y := mX6_in) (Int32.ofNat 0) dX6_in_14 rfl ?_
      exact wa_ireturn (pc := 15) (y := mX6_in) .boolean dX6_in_15 rfl rfl ⟨by simp only [inb, bI, Bool.and_eq_true, decide_eq_true_eq]; simp only [Int32.le_iff_toInt_le, Int32.lt_iff_toInt_lt] at *; first | (rw [if_pos (by omega)]; rfl) | (rw [if_neg (by omega)]; rfl), rfl⟩
    · refine wa_iconst (pc := 10) (y := mX6_in) (Int32.ofNat 1) dX6_in_10 rfl ?_
      refine wa_goto (pc := 11) (y := mX6_in) 15 dX6_in_11 rfl ?_
      exact wa_ireturn (pc := 15) (y := mX6_in) .boolean dX6_in_15 rfl rfl ⟨by simp only [inb, bI, Bool.and_eq_true, decide_eq_true_eq]; simp only [Int32.le_iff_toInt_le, Int32.lt_iff_toInt_lt] at *; first | (rw [if_pos (by omega)]; rfl) | (rw [if_neg (by omega)]; rfl), rfl⟩
theorem s_X6_isChannel {v : Int32} (hd : 1 ≤ d) : MA G d mX6_isChannel [.int v] h (fun r h' => r = .inl (some (.int (bI (inb v 0 11)))) ∧ h' = h) := by
  show WA _ _ _ 0 [.int v] [] _ _
  refine wa_iload_n (pc := 0) (y := mX6_isChannel) dX6_isChannel_0 rfl ?_
  refine wa_iconst (pc := 1) (y := mX6_isChannel) (Int32.ofNat 0) dX6_isChannel_1 rfl ?_
  refine wa_bipush (pc := 2) (y := mX6_isChannel) (Int32.ofNat 11) dX6_isChannel_2 rfl ?_
  refine wa_callS (pc := 4) (s_X6_in (d := d - 1)) dX6_isChannel_4 okX6_in q2716 q2717 rfl rfl (Nat.le_of_ble_eq_true rfl) (Nat.le_of_ble_eq_true rfl) (by omega) ?_
  rintro _ _ - - ⟨rfl, rfl⟩
  refine aft_v (pc2 := 7) ?_ rfl
  exact wa_ireturn (pc := 7) (y := mX6_isChannel) .boolean dX6_isChannel_7 rfl (bI_nar _) ⟨rfl, rfl⟩
theorem s_X6_isPart {v : Int32} (hd : 1 ≤ d) : MA G d mX6_isPart [.int v] h (fun r h' => r = .inl (some (.int (bI (inb v 0 3)))) ∧ h' = h) := by
  show WA _ _ _ 0 [.int v] [] _ _
  refine wa_iload_n (pc := 0) (y := mX6_isPart) dX6_isPart_0 rfl ?_
  refine wa_iconst (pc := 1) (y := mX6_isPart) (Int32.ofNat 0) dX6_isPart_1 rfl ?_
  refine wa_iconst (pc := 2) (y := mX6_isPart) (Int32.ofNat 3) dX6_isPart_2 rfl ?_
  refine wa_callS (pc := 3) (s_X6_in (d := d - 1)) dX6_isPart_3 okX6_in q2716 q2717 rfl rfl (Nat.le_of_ble_eq_true rfl) (Nat.le_of_ble_eq_true rfl) (by omega) ?_
  rintro _ _ - - ⟨rfl, rfl⟩
  refine aft_v (pc2 := 6) ?_ rfl
  exact wa_ireturn (pc := 6) (y := mX6_isPart) .boolean dX6_isPart_6 rfl (bI_nar _) ⟨rfl, rfl⟩
theorem s_X6_placeOf {cue : Int32} (hd : 1 ≤ d) (hI : Inv f) : MA G d mX6_placeOf [.ref m, .int cue] (mH h m f σ) (fun r h' => r = .inl (some (.int (oI (pl f cue)))) ∧ h' = mH h m f σ) := by
  have hn := hI.1
  have key : ∀ t k, k + t = u (f 0) → WA G d mX6_placeOf 2 [.ref m, .int cue, .int (Int32.ofNat k)] [] (mH h m f σ) (fun r h' => r = .inl (some (.int (oI (plg f cue t k)))) ∧ h' = mH h m f σ) := by
    intro t
    induction t with
    | zero =>
      intro k hk
      refine wa_iload_n (pc := 2) (y := mX6_placeOf) dX6_placeOf_2 rfl ?_
      first | refine wa_aload_n (pc := 3) (y := mX6_placeOf) dX6_placeOf_3 rfl ?_ | refine wa_aload_nN (pc := 3) (y := mX6_placeOf) dX6_placeOf_3 rfl ?_ | refine wa_aload_nq (pc := 3) (y := mX6_placeOf) dX6_placeOf_3 rfl ?_
      refine wa_getf (pc := 4) (y := mX6_placeOf) (k := 5) 0 dX6_placeOf_4 mH_o rfl q2643 (Or.inl rfl) (Nat.le_of_ble_eq_true rfl) (by rfl) ?_
      refine wa_iconst (pc := 7) (y := mX6_placeOf) (Int32.ofNat 0) dX6_placeOf_7 rfl ?_
      refine wa_ialoadU (pc := 8) (y := mX6_placeOf) dX6_placeOf_8 mH_1 (by omega) ?_
      refine wa_icmp_ge (pc := 9) 33 dX6_placeOf_9 rfl (fun hb9 => ?_) (fun hb9 => absurd ((iN_le (by omega) (by omega)).mpr (by omega)) hb9)
      refine wa_iconst (pc := 33) (y := mX6_placeOf) (-1) dX6_placeOf_33 rfl ?_
      exact wa_ireturn (pc := 34) (y := mX6_placeOf) .int dX6_placeOf_34 rfl rfl ⟨rfl, rfl⟩
    | succ t ih =>
      intro k hk
      refine wa_iload_n (pc := 2) (y := mX6_placeOf) dX6_placeOf_2 rfl ?_
      first | refine wa_aload_n (pc := 3) (y := mX6_placeOf) dX6_placeOf_3 rfl ?_ | refine wa_aload_nN (pc := 3) (y := mX6_placeOf) dX6_placeOf_3 rfl ?_ | refine wa_aload_nq (pc := 3) (y := mX6_placeOf) dX6_placeOf_3 rfl ?_
      refine wa_getf (pc := 4) (y := mX6_placeOf) (k := 5) 0 dX6_placeOf_4 mH_o rfl q2643 (Or.inl rfl) (Nat.le_of_ble_eq_true rfl) (by rfl) ?_
      refine wa_iconst (pc := 7) (y := mX6_placeOf) (Int32.ofNat 0) dX6_placeOf_7 rfl ?_
      refine wa_ialoadU (pc := 8) (y := mX6_placeOf) dX6_placeOf_8 mH_1 (by omega) ?_
      refine wa_icmp_ge (pc := 9) 33 dX6_placeOf_9 rfl (fun hb9 => absurd ((iN_le (by omega) (by omega)).mp hb9) (by omega)) (fun hb9 => ?_)
      first | refine wa_aload_n (pc := 12) (y := mX6_placeOf) dX6_placeOf_12 rfl ?_ | refine wa_aload_nN (pc := 12) (y := mX6_placeOf) dX6_placeOf_12 rfl ?_ | refine wa_aload_nq (pc := 12) (y := mX6_placeOf) dX6_placeOf_12 rfl ?_
      refine wa_getf (pc := 13) (y := mX6_placeOf) (k := 5) 0 dX6_placeOf_13 mH_o rfl q2643 (Or.inl rfl) (Nat.le_of_ble_eq_true rfl) (by rfl) ?_
      refine wa_iload_n (pc := 16) (y := mX6_placeOf) dX6_placeOf_16 rfl ?_
      refine wa_callS (pc := 17) (s_X6_at (d := d - 1)) dX6_placeOf_17 okX6_at q2727 q2728 rfl rfl (Nat.le_of_ble_eq_true rfl) (Nat.le_of_ble_eq_true rfl) (by omega) ?_
      rintro _ _ - - ⟨rfl, rfl⟩
      refine aft_v (pc2 := 20) ?_ rfl
      refine wa_ialoadN (pc := 20) (y := mX6_placeOf) dX6_placeOf_20 mH_1 (by omega) ?_
      refine wa_iload_n (pc := 21) (y := mX6_placeOf) dX6_placeOf_21 rfl ?_
      refine wa_icmp_ne (pc := 22) 27 dX6_placeOf_22 rfl (fun hb22 => ?_) (fun hb22 => ?_)
      · rw [plg, if_neg hb22]
        first | with_reducible refine wa_iincN (pc := 27) (y := mX6_placeOf) dX6_placeOf_27 rfl (Nat.le_of_ble_eq_true rfl) rfl ?_ | refine wa_iinc (pc := 27) (y := mX6_placeOf) (1) dX6_placeOf_27 rfl rfl (Nat.le_of_ble_eq_true rfl) rfl ?_
        simp only [List.set_cons_zero, List.set_cons_succ]
        refine wa_goto (pc := 30) (y := mX6_placeOf) 2 dX6_placeOf_30 rfl ?_
        exact ih (k + 1) (by omega)
      · refine wa_iload_n (pc := 25) (y := mX6_placeOf) dX6_placeOf_25 rfl ?_
        exact wa_ireturn (pc := 26) (y := mX6_placeOf) .int dX6_placeOf_26 rfl rfl ⟨by rw [plg, if_pos hb22]; rfl, rfl⟩
  show WA _ _ _ 0 [.ref m, .int cue, .retAddr 0] [] _ _
  refine wa_iconst (pc := 0) (y := mX6_placeOf) (Int32.ofNat 0) dX6_placeOf_0 rfl ?_
  refine wa_istore_n (pc := 1) (y := mX6_placeOf) dX6_placeOf_1 (Nat.le_of_ble_eq_true rfl) rfl ?_
  change WA _ _ _ _ (List.set _ 2 _) _ _ _
  simp only [List.set_cons_zero, List.set_cons_succ]
  exact key (u (f 0)) 0 (by omega)
theorem oI_neg {o : Option Nat} (ho : ∀ k, o = some k → k < 100) : oI o < 0 ↔ o = none := by
  cases o with
  | none => exact ⟨fun _ => rfl, fun _ => by decide⟩
  | some k =>
    refine ⟨fun h => ?_, fun h => by cases h⟩
    have := ho k rfl
    rw [show (0 : Int32) = Int32.ofNat 0 from rfl] at h
    have := (iN_lt (by omega) (by omega)).mp h
    omega
theorem pl_oI {f : Nat → Int32} (hI : Inv f) (cue : Int32) : oI (pl f cue) < 0 ↔ pl f cue = none := oI_neg fun k h => by
  have := (pl_some h).1
  have := hI.1
  omega
theorem gv_oI {f : Nat → Int32} (hI : Inv f) (cue ch : Int32) : oI (gv f cue ch) < 0 ↔ gv f cue ch = none := oI_neg fun k h => by
  have := (gv_some h).1
  have := hI.2.1
  omega
theorem s_X6_isCue {cue : Int32} (hd : 2 ≤ d) (hI : Inv f) : MA G d mX6_isCue [.ref m, .int cue] (mH h m f σ) (fun r h' => r = .inl (some (.int (bI (isC f cue)))) ∧ h' = mH h m f σ) := by
  show WA _ _ _ 0 [.ref m, .int cue] [] _ _
  first | refine wa_aload_n (pc := 0) (y := mX6_isCue) dX6_isCue_0 rfl ?_ | refine wa_aload_nN (pc := 0) (y := mX6_isCue) dX6_isCue_0 rfl ?_ | refine wa_aload_nq (pc := 0) (y := mX6_isCue) dX6_isCue_0 rfl ?_
  refine wa_iload_n (pc := 1) (y := mX6_isCue) dX6_isCue_1 rfl ?_
  refine wa_callV (pc := 2) (s_X6_placeOf (d := d - 1) (by omega) hI) dX6_isCue_2 okX6_placeOf q2723 q2725 qs42 mH_o rfl rfl rfl (Nat.le_of_ble_eq_true rfl) (Nat.le_of_ble_eq_true rfl) (by omega) ?_
  rintro _ _ - - ⟨rfl, rfl⟩
  refine aft_v (pc2 := 5) ?_ rfl
  refine wa_if_lt (pc := 5) 12 dX6_isCue_5 rfl (fun hb5 => ?_) (fun hb5 => ?_)
  · have e := (pl_oI hI cue).mp hb5
    refine wa_iconst (pc := 12) (y := mX6_isCue) (Int32.ofNat 0) dX6_isCue_12 rfl ?_
    exact wa_ireturn (pc := 13) (y := mX6_isCue) .boolean dX6_isCue_13 rfl rfl ⟨by unfold isC; cases e2 : pl f cue <;> simp_all [bI], rfl⟩
  · have e := fun q => hb5 ((pl_oI hI cue).mpr q)
    refine wa_iconst (pc := 8) (y := mX6_isCue) (Int32.ofNat 1) dX6_isCue_8 rfl ?_
    refine wa_goto (pc := 9) (y := mX6_isCue) 13 dX6_isCue_9 rfl ?_
    exact wa_ireturn (pc := 13) (y := mX6_isCue) .boolean dX6_isCue_13 rfl rfl ⟨by unfold isC; cases e2 : pl f cue <;> simp_all [bI], rfl⟩
theorem s_X6_isBlock {k : Nat} (hd : 1 ≤ d) (hk : k < 12) : MA G d mX6_isBlock [.ref m, .int (Int32.ofNat k)] (mH h m f σ) (fun r h' => r = .inl (some (.int (bI (isBl f k)))) ∧ h' = mH h m f σ) := by
  show WA _ _ _ 0 [.ref m, .int _] [] _ _
  first | refine wa_aload_n (pc := 0) (y := mX6_isBlock) dX6_isBlock_0 rfl ?_ | refine wa_aload_nN (pc := 0) (y := mX6_isBlock) dX6_isBlock_0 rfl ?_ | refine wa_aload_nq (pc := 0) (y := mX6_isBlock) dX6_isBlock_0 rfl ?_
  refine wa_getf (pc := 1) (y := mX6_isBlock) (k := 5) 0 dX6_isBlock_1 mH_o rfl q2643 (Or.inl rfl) (Nat.le_of_ble_eq_true rfl) (by rfl) ?_
  refine wa_iload_n (pc := 4) (y := mX6_isBlock) dX6_isBlock_4 rfl ?_
  refine wa_callS (pc := 5) (s_X6_at (d := d - 1)) dX6_isBlock_5 okX6_at q2727 q2728 rfl rfl (Nat.le_of_ble_eq_true rfl) (Nat.le_of_ble_eq_true rfl) (by omega) ?_
  rintro _ _ - - ⟨rfl, rfl⟩
  refine aft_v (pc2 := 8) ?_ rfl
  refine wa_iconst (pc := 8) (y := mX6_isBlock) (Int32.ofNat 2) dX6_isBlock_8 rfl ?_
  first | with_reducible refine wa_iaddN (pc := 9) (y := mX6_isBlock) dX6_isBlock_9 ?_ | refine wa_iadd (pc := 9) (y := mX6_isBlock) dX6_isBlock_9 ?_
  refine wa_ialoadN (pc := 10) (y := mX6_isBlock) dX6_isBlock_10 mH_1 (by omega) ?_
  refine wa_iconst (pc := 11) (y := mX6_isBlock) (Int32.ofNat 1) dX6_isBlock_11 rfl ?_
  refine wa_icmp_ne (pc := 12) 19 dX6_isBlock_12 rfl (fun hb12 => ?_) (fun hb12 => ?_)
  · have hb : ¬ f (18 + 12 * k + 2) = 1 := hb12
    refine wa_iconst (pc := 19) (y := mX6_isBlock) (Int32.ofNat 0) dX6_isBlock_19 rfl ?_
    exact wa_ireturn (pc := 20) (y := mX6_isBlock) .boolean dX6_isBlock_20 rfl rfl ⟨by unfold isBl; simp [hb, bI], rfl⟩
  · have hb : f (18 + 12 * k + 2) = 1 := hb12
    refine wa_iconst (pc := 15) (y := mX6_isBlock) (Int32.ofNat 1) dX6_isBlock_15 rfl ?_
    refine wa_goto (pc := 16) (y := mX6_isBlock) 20 dX6_isBlock_16 rfl ?_
    exact wa_ireturn (pc := 20) (y := mX6_isBlock) .boolean dX6_isBlock_20 rfl rfl ⟨by unfold isBl; simp [hb, bI], rfl⟩
theorem s_X6_given {cue ch : Int32} (hI : Inv f) : MA G d mX6_given [.ref m, .int cue, .int ch] (mH h m f σ) (fun r h' => r = .inl (some (.int (oI (gv f cue ch)))) ∧ h' = mH h m f σ) := by
  have hn := hI.2.1
  have key : ∀ t k, k + t = u (f 1) → WA G d mX6_given 2 [.ref m, .int cue, .int ch, .int (Int32.ofNat k)] [] (mH h m f σ) (fun r h' => r = .inl (some (.int (oI (gvg f cue ch t k)))) ∧ h' = mH h m f σ) := by
    intro t
    induction t with
    | zero =>
      intro k hk
      refine wa_iload_n (pc := 2) (y := mX6_given) dX6_given_2 rfl ?_
      first | refine wa_aload_n (pc := 3) (y := mX6_given) dX6_given_3 rfl ?_ | refine wa_aload_nN (pc := 3) (y := mX6_given) dX6_given_3 rfl ?_ | refine wa_aload_nq (pc := 3) (y := mX6_given) dX6_given_3 rfl ?_
      refine wa_getf (pc := 4) (y := mX6_given) (k := 5) 0 dX6_given_4 mH_o rfl q2643 (Or.inl rfl) (Nat.le_of_ble_eq_true rfl) (by rfl) ?_
      refine wa_iconst (pc := 7) (y := mX6_given) (Int32.ofNat 1) dX6_given_7 rfl ?_
      refine wa_ialoadU (pc := 8) (y := mX6_given) dX6_given_8 mH_1 (by omega) ?_
      refine wa_icmp_ge (pc := 9) 54 dX6_given_9 rfl (fun hb9 => ?_) (fun hb9 => absurd ((iN_le (by omega) (by omega)).mpr (by omega)) hb9)
      refine wa_iconst (pc := 54) (y := mX6_given) (-1) dX6_given_54 rfl ?_
      exact wa_ireturn (pc := 55) (y := mX6_given) .int dX6_given_55 rfl rfl ⟨rfl, rfl⟩
    | succ t ih =>
      intro k hk
      refine wa_iload_n (pc := 2) (y := mX6_given) dX6_given_2 rfl ?_
      first | refine wa_aload_n (pc := 3) (y := mX6_given) dX6_given_3 rfl ?_ | refine wa_aload_nN (pc := 3) (y := mX6_given) dX6_given_3 rfl ?_ | refine wa_aload_nq (pc := 3) (y := mX6_given) dX6_given_3 rfl ?_
      refine wa_getf (pc := 4) (y := mX6_given) (k := 5) 0 dX6_given_4 mH_o rfl q2643 (Or.inl rfl) (Nat.le_of_ble_eq_true rfl) (by rfl) ?_
      refine wa_iconst (pc := 7) (y := mX6_given) (Int32.ofNat 1) dX6_given_7 rfl ?_
      refine wa_ialoadU (pc := 8) (y := mX6_given) dX6_given_8 mH_1 (by omega) ?_
      refine wa_icmp_ge (pc := 9) 54 dX6_given_9 rfl (fun hb9 => absurd ((iN_le (by omega) (by omega)).mp hb9) (by omega)) (fun hb9 => ?_)
      first | refine wa_aload_n (pc := 12) (y := mX6_given) dX6_given_12 rfl ?_ | refine wa_aload_nN (pc := 12) (y := mX6_given) dX6_given_12 rfl ?_ | refine wa_aload_nq (pc := 12) (y := mX6_given) dX6_given_12 rfl ?_
      refine wa_getf (pc := 13) (y := mX6_given) (k := 5) 0 dX6_given_13 mH_o rfl q2643 (Or.inl rfl) (Nat.le_of_ble_eq_true rfl) (by rfl) ?_
      refine wa_sipush (pc := 16) (y := mX6_given) (Int32.ofNat 162) dX6_given_16 rfl ?_
      refine wa_iconst (pc := 19) (y := mX6_given) (Int32.ofNat 4) dX6_given_19 rfl ?_
      refine wa_iload_n (pc := 20) (y := mX6_given) dX6_given_20 rfl ?_
      first | with_reducible refine wa_imulN (pc := 21) (y := mX6_given) dX6_given_21 ?_ | refine wa_imul (pc := 21) (y := mX6_given) dX6_given_21 ?_
      first | with_reducible refine wa_iaddN (pc := 22) (y := mX6_given) dX6_given_22 ?_ | refine wa_iadd (pc := 22) (y := mX6_given) dX6_given_22 ?_
      refine wa_ialoadN (pc := 23) (y := mX6_given) dX6_given_23 mH_1 (by omega) ?_
      refine wa_iload_n (pc := 24) (y := mX6_given) dX6_given_24 rfl ?_
      refine wa_icmp_ne (pc := 25) 48 dX6_given_25 rfl (fun hb25 => ?_) (fun hb25 => ?_)
      · rw [gvg, if_neg (fun q => hb25 q.1)]
        first | with_reducible refine wa_iincN (pc := 48) (y := mX6_given) dX6_given_48 rfl (Nat.le_of_ble_eq_true rfl) rfl ?_ | refine wa_iinc (pc := 48) (y := mX6_given) (1) dX6_given_48 rfl rfl (Nat.le_of_ble_eq_true rfl) rfl ?_
        simp only [List.set_cons_zero, List.set_cons_succ]
        refine wa_goto (pc := 51) (y := mX6_given) 2 dX6_given_51 rfl ?_
        exact ih (k + 1) (by omega)
      · first | refine wa_aload_n (pc := 28) (y := mX6_given) dX6_given_28 rfl ?_ | refine wa_aload_nN (pc := 28) (y := mX6_given) dX6_given_28 rfl ?_ | refine wa_aload_nq (pc := 28) (y := mX6_given) dX6_given_28 rfl ?_
        refine wa_getf (pc := 29) (y := mX6_given) (k := 5) 0 dX6_given_29 mH_o rfl q2643 (Or.inl rfl) (Nat.le_of_ble_eq_true rfl) (by rfl) ?_
        refine wa_sipush (pc := 32) (y := mX6_given) (Int32.ofNat 162) dX6_given_32 rfl ?_
        refine wa_iconst (pc := 35) (y := mX6_given) (Int32.ofNat 4) dX6_given_35 rfl ?_
        refine wa_iload_n (pc := 36) (y := mX6_given) dX6_given_36 rfl ?_
        first | with_reducible refine wa_imulN (pc := 37) (y := mX6_given) dX6_given_37 ?_ | refine wa_imul (pc := 37) (y := mX6_given) dX6_given_37 ?_
        first | with_reducible refine wa_iaddN (pc := 38) (y := mX6_given) dX6_given_38 ?_ | refine wa_iadd (pc := 38) (y := mX6_given) dX6_given_38 ?_
        refine wa_iconst (pc := 39) (y := mX6_given) (Int32.ofNat 1) dX6_given_39 rfl ?_
        first | with_reducible refine wa_iaddN (pc := 40) (y := mX6_given) dX6_given_40 ?_ | refine wa_iadd (pc := 40) (y := mX6_given) dX6_given_40 ?_
        refine wa_ialoadN (pc := 41) (y := mX6_given) dX6_given_41 mH_1 (by omega) ?_
        refine wa_iload_n (pc := 42) (y := mX6_given) dX6_given_42 rfl ?_
        refine wa_icmp_ne (pc := 43) 48 dX6_given_43 rfl (fun hb43 => ?_) (fun hb43 => ?_)
        · rw [gvg, if_neg (fun q => hb43 q.2)]
          first | with_reducible refine wa_iincN (pc := 48) (y := mX6_given) dX6_given_48 rfl (Nat.le_of_ble_eq_true rfl) rfl ?_ | refine wa_iinc (pc := 48) (y := mX6_given) (1) dX6_given_48 rfl rfl (Nat.le_of_ble_eq_true rfl) rfl ?_
          simp only [List.set_cons_zero, List.set_cons_succ]
          refine wa_goto (pc := 51) (y := mX6_given) 2 dX6_given_51 rfl ?_
          exact ih (k + 1) (by omega)
        · refine wa_iload_n (pc := 46) (y := mX6_given) dX6_given_46 rfl ?_
          exact wa_ireturn (pc := 47) (y := mX6_given) .int dX6_given_47 rfl rfl ⟨by rw [gvg, if_pos ⟨hb25, hb43⟩]; rfl, rfl⟩
  show WA _ _ _ 0 [.ref m, .int cue, .int ch, .retAddr 0] [] _ _
  refine wa_iconst (pc := 0) (y := mX6_given) (Int32.ofNat 0) dX6_given_0 rfl ?_
  refine wa_istore_n (pc := 1) (y := mX6_given) dX6_given_1 (Nat.le_of_ble_eq_true rfl) rfl ?_
  change WA _ _ _ _ (List.set _ 3 _) _ _ _
  simp only [List.set_cons_zero, List.set_cons_succ]
  exact key (u (f 1)) 0 (by omega)
theorem s_X6_levelIn {p c : Nat} (hd : 2 ≤ d) (hI : Inv f) (hp : p < u (f 0)) (hc : c < 12) : MA G d mX6_levelIn [.ref m, .int (Int32.ofNat p), .int (Int32.ofNat c)] (mH h m f σ) (fun r h' => r = .inl (some (.int (lvN f c (p + 1)))) ∧ h' = mH h m f σ) := by
  have hn := hI.1
  have hi := hI.2.1
  have key : ∀ t k q, k + t = p + 1 → WA G d mX6_levelIn 13 [.ref m, .int (Int32.ofNat p), .int (Int32.ofNat c), .int (lvN f c k), .int (Int32.ofNat k), q] [] (mH h m f σ) (fun r h' => r = .inl (some (.int (lvN f c (p + 1)))) ∧ h' = mH h m f σ) := by
    intro t
    induction t with
    | zero =>
      intro k q hk
      refine wa_iload (pc := 13) (y := mX6_levelIn) dX6_levelIn_13 rfl ?_
      refine wa_iload_n (pc := 15) (y := mX6_levelIn) dX6_levelIn_15 rfl ?_
      refine wa_icmp_gt (pc := 16) 116 dX6_levelIn_16 rfl (fun hb16 => ?_) (fun hb16 => absurd ((iN_lt (by omega) (by omega)).mpr (by omega)) hb16)
      refine wa_iload_n (pc := 116) (y := mX6_levelIn) dX6_levelIn_116 rfl ?_
      exact wa_ireturn (pc := 117) (y := mX6_levelIn) .int dX6_levelIn_117 rfl rfl ⟨by rw [show k = p + 1 by omega], rfl⟩
    | succ t ih =>
      intro k q hk
      have e0 : ∀ l, l = lvS f c k (lvN f c k) → l = lvN f c (k + 1) := fun l e => e
      cases eg : gv f (f (18 + 12 * k)) (Int32.ofNat c) with
      | none =>
        refine wa_iload (pc := 13) (y := mX6_levelIn) dX6_levelIn_13 rfl ?_
        refine wa_iload_n (pc := 15) (y := mX6_levelIn) dX6_levelIn_15 rfl ?_
        refine wa_icmp_gt (pc := 16) 116 dX6_levelIn_16 rfl (fun hb16 => absurd ((iN_lt (by omega) (by omega)).mp hb16) (by omega)) (fun hb16 => ?_)
        first | refine wa_aload_n (pc := 19) (y := mX6_levelIn) dX6_levelIn_19 rfl ?_ | refine wa_aload_nN (pc := 19) (y := mX6_levelIn) dX6_levelIn_19 rfl ?_ | refine wa_aload_nq (pc := 19) (y := mX6_levelIn) dX6_levelIn_19 rfl ?_
        first | refine wa_aload_n (pc := 20) (y := mX6_levelIn) dX6_levelIn_20 rfl ?_ | refine wa_aload_nN (pc := 20) (y := mX6_levelIn) dX6_levelIn_20 rfl ?_ | refine wa_aload_nq (pc := 20) (y := mX6_levelIn) dX6_levelIn_20 rfl ?_
        refine wa_getf (pc := 21) (y := mX6_levelIn) (k := 5) 0 dX6_levelIn_21 mH_o rfl q2643 (Or.inl rfl) (Nat.le_of_ble_eq_true rfl) (by rfl) ?_
        refine wa_iload (pc := 24) (y := mX6_levelIn) dX6_levelIn_24 rfl ?_
        refine wa_callS (pc := 26) (s_X6_at (d := d - 1)) dX6_levelIn_26 okX6_at q2727 q2728 rfl rfl (Nat.le_of_ble_eq_true rfl) (Nat.le_of_ble_eq_true rfl) (by omega) ?_
        rintro _ _ - - ⟨rfl, rfl⟩
        refine aft_v (pc2 := 29) ?_ rfl
        refine wa_ialoadN (pc := 29) (y := mX6_levelIn) dX6_levelIn_29 mH_1 (by omega) ?_
        refine wa_iload_n (pc := 30) (y := mX6_levelIn) dX6_levelIn_30 rfl ?_
        refine wa_callV (pc := 31) (s_X6_given (d := d - 1) hI) dX6_levelIn_31 okX6_given q2758 q2760 qs47 mH_o rfl rfl rfl (Nat.le_of_ble_eq_true rfl) (Nat.le_of_ble_eq_true rfl) (by omega) ?_
        rintro _ _ - - ⟨rfl, rfl⟩
        refine aft_v (pc2 := 34) ?_ rfl
        rw [eg, oI_none]
        refine wa_istore (pc := 34) (y := mX6_levelIn) dX6_levelIn_34 (Nat.le_of_ble_eq_true rfl) rfl ?_
        simp only [List.set_cons_zero, List.set_cons_succ]
        refine wa_iload (pc := 36) (y := mX6_levelIn) dX6_levelIn_36 rfl ?_
        refine wa_if_lt (pc := 38) 91 dX6_levelIn_38 rfl (fun hb38 => ?_) (fun hb38 => absurd (by decide) hb38)
        first | refine wa_aload_n (pc := 91) (y := mX6_levelIn) dX6_levelIn_91 rfl ?_ | refine wa_aload_nN (pc := 91) (y := mX6_levelIn) dX6_levelIn_91 rfl ?_ | refine wa_aload_nq (pc := 91) (y := mX6_levelIn) dX6_levelIn_91 rfl ?_
        refine wa_iload (pc := 92) (y := mX6_levelIn) dX6_levelIn_92 rfl ?_
        refine wa_callV (pc := 94) (s_X6_isBlock (d := d - 1) (by omega) (by omega)) dX6_levelIn_94 okX6_isBlock q2762 q2764 qs48 mH_o rfl rfl rfl (Nat.le_of_ble_eq_true rfl) (Nat.le_of_ble_eq_true rfl) (by omega) ?_
        rintro _ _ - - ⟨rfl, rfl⟩
        refine aft_v (pc2 := 97) ?_ rfl
        refine wa_if_eq (pc := 97) 110 dX6_levelIn_97 rfl (fun hb97 => ?_) (fun hb97 => ?_)
        · rw [e0 (lvN f c k) (by unfold lvS; rw [eg]; simp only [bI_0.mp hb97]; rfl)]
          first | with_reducible refine wa_iincN (pc := 110) (y := mX6_levelIn) dX6_levelIn_110 rfl (Nat.le_of_ble_eq_true rfl) rfl ?_ | refine wa_iinc (pc := 110) (y := mX6_levelIn) (1) dX6_levelIn_110 rfl rfl (Nat.le_of_ble_eq_true rfl) rfl ?_
          simp only [List.set_cons_zero, List.set_cons_succ]
          refine wa_goto (pc := 113) (y := mX6_levelIn) 13 dX6_levelIn_113 rfl ?_
          exact ih (k + 1) _ (by omega)
        · first | refine wa_aload_n (pc := 100) (y := mX6_levelIn) dX6_levelIn_100 rfl ?_ | refine wa_aload_nN (pc := 100) (y := mX6_levelIn) dX6_levelIn_100 rfl ?_ | refine wa_aload_nq (pc := 100) (y := mX6_levelIn) dX6_levelIn_100 rfl ?_
          refine wa_getf (pc := 101) (y := mX6_levelIn) (k := 5) 0 dX6_levelIn_101 mH_o rfl q2643 (Or.inl rfl) (Nat.le_of_ble_eq_true rfl) (by rfl) ?_
          refine wa_bipush (pc := 104) (y := mX6_levelIn) (Int32.ofNat 6) dX6_levelIn_104 rfl ?_
          refine wa_iload_n (pc := 106) (y := mX6_levelIn) dX6_levelIn_106 rfl ?_
          first | with_reducible refine wa_iaddN (pc := 107) (y := mX6_levelIn) dX6_levelIn_107 ?_ | refine wa_iadd (pc := 107) (y := mX6_levelIn) dX6_levelIn_107 ?_
          refine wa_ialoadN (pc := 108) (y := mX6_levelIn) dX6_levelIn_108 mH_1 (by omega) ?_
          refine wa_istore_n (pc := 109) (y := mX6_levelIn) dX6_levelIn_109 (Nat.le_of_ble_eq_true rfl) rfl ?_
          change WA _ _ _ _ (List.set _ 3 _) _ _ _
          simp only [List.set_cons_zero, List.set_cons_succ]
          rw [e0 (f (6 + c)) (by unfold lvS; rw [eg]; simp only [bI_n0 hb97]; rfl)]
          first | with_reducible refine wa_iincN (pc := 110) (y := mX6_levelIn) dX6_levelIn_110 rfl (Nat.le_of_ble_eq_true rfl) rfl ?_ | refine wa_iinc (pc := 110) (y := mX6_levelIn) (1) dX6_levelIn_110 rfl rfl (Nat.le_of_ble_eq_true rfl) rfl ?_
          simp only [List.set_cons_zero, List.set_cons_succ]
          refine wa_goto (pc := 113) (y := mX6_levelIn) 13 dX6_levelIn_113 rfl ?_
          exact ih (k + 1) _ (by omega)
      | some i =>
        have hg := gv_some eg
        refine wa_iload (pc := 13) (y := mX6_levelIn) dX6_levelIn_13 rfl ?_
        refine wa_iload_n (pc := 15) (y := mX6_levelIn) dX6_levelIn_15 rfl ?_
        refine wa_icmp_gt (pc := 16) 116 dX6_levelIn_16 rfl (fun hb16 => absurd ((iN_lt (by omega) (by omega)).mp hb16) (by omega)) (fun hb16 => ?_)
        first | refine wa_aload_n (pc := 19) (y := mX6_levelIn) dX6_levelIn_19 rfl ?_ | refine wa_aload_nN (pc := 19) (y := mX6_levelIn) dX6_levelIn_19 rfl ?_ | refine wa_aload_nq (pc := 19) (y := mX6_levelIn) dX6_levelIn_19 rfl ?_
        first | refine wa_aload_n (pc := 20) (y := mX6_levelIn) dX6_levelIn_20 rfl ?_ | refine wa_aload_nN (pc := 20) (y := mX6_levelIn) dX6_levelIn_20 rfl ?_ | refine wa_aload_nq (pc := 20) (y := mX6_levelIn) dX6_levelIn_20 rfl ?_
        refine wa_getf (pc := 21) (y := mX6_levelIn) (k := 5) 0 dX6_levelIn_21 mH_o rfl q2643 (Or.inl rfl) (Nat.le_of_ble_eq_true rfl) (by rfl) ?_
        refine wa_iload (pc := 24) (y := mX6_levelIn) dX6_levelIn_24 rfl ?_
        refine wa_callS (pc := 26) (s_X6_at (d := d - 1)) dX6_levelIn_26 okX6_at q2727 q2728 rfl rfl (Nat.le_of_ble_eq_true rfl) (Nat.le_of_ble_eq_true rfl) (by omega) ?_
        rintro _ _ - - ⟨rfl, rfl⟩
        refine aft_v (pc2 := 29) ?_ rfl
        refine wa_ialoadN (pc := 29) (y := mX6_levelIn) dX6_levelIn_29 mH_1 (by omega) ?_
        refine wa_iload_n (pc := 30) (y := mX6_levelIn) dX6_levelIn_30 rfl ?_
        refine wa_callV (pc := 31) (s_X6_given (d := d - 1) hI) dX6_levelIn_31 okX6_given q2758 q2760 qs47 mH_o rfl rfl rfl (Nat.le_of_ble_eq_true rfl) (Nat.le_of_ble_eq_true rfl) (by omega) ?_
        rintro _ _ - - ⟨rfl, rfl⟩
        refine aft_v (pc2 := 34) ?_ rfl
        rw [eg, oI_some]
        refine wa_istore (pc := 34) (y := mX6_levelIn) dX6_levelIn_34 (Nat.le_of_ble_eq_true rfl) rfl ?_
        simp only [List.set_cons_zero, List.set_cons_succ]
        refine wa_iload (pc := 36) (y := mX6_levelIn) dX6_levelIn_36 rfl ?_
        refine wa_if_lt (pc := 38) 91 dX6_levelIn_38 rfl (fun hb38 => absurd ((iN_lt (b := 0) (by omega) (by omega)).mp hb38) (by omega)) (fun hb38 => ?_)
        first | refine wa_aload_n (pc := 41) (y := mX6_levelIn) dX6_levelIn_41 rfl ?_ | refine wa_aload_nN (pc := 41) (y := mX6_levelIn) dX6_levelIn_41 rfl ?_ | refine wa_aload_nq (pc := 41) (y := mX6_levelIn) dX6_levelIn_41 rfl ?_
        refine wa_getf (pc := 42) (y := mX6_levelIn) (k := 5) 0 dX6_levelIn_42 mH_o rfl q2643 (Or.inl rfl) (Nat.le_of_ble_eq_true rfl) (by rfl) ?_
        refine wa_sipush (pc := 45) (y := mX6_levelIn) (Int32.ofNat 162) dX6_levelIn_45 rfl ?_
        refine wa_iconst (pc := 48) (y := mX6_levelIn) (Int32.ofNat 4) dX6_levelIn_48 rfl ?_
        refine wa_iload (pc := 49) (y := mX6_levelIn) dX6_levelIn_49 rfl ?_
        first | with_reducible refine wa_imulN (pc := 51) (y := mX6_levelIn) dX6_levelIn_51 ?_ | refine wa_imul (pc := 51) (y := mX6_levelIn) dX6_levelIn_51 ?_
        first | with_reducible refine wa_iaddN (pc := 52) (y := mX6_levelIn) dX6_levelIn_52 ?_ | refine wa_iadd (pc := 52) (y := mX6_levelIn) dX6_levelIn_52 ?_
        refine wa_iconst (pc := 53) (y := mX6_levelIn) (Int32.ofNat 2) dX6_levelIn_53 rfl ?_
        first | with_reducible refine wa_iaddN (pc := 54) (y := mX6_levelIn) dX6_levelIn_54 ?_ | refine wa_iadd (pc := 54) (y := mX6_levelIn) dX6_levelIn_54 ?_
        refine wa_ialoadN (pc := 55) (y := mX6_levelIn) dX6_levelIn_55 mH_1 (by omega) ?_
        refine wa_iconst (pc := 56) (y := mX6_levelIn) (-1) dX6_levelIn_56 rfl ?_
        refine wa_icmp_ne (pc := 57) 72 dX6_levelIn_57 rfl (fun hb57 => ?_) (fun hb57 => ?_)
        · have e := e0 (f (162 + 4 * i + 2)) (by unfold lvS; rw [eg]; exact (if_neg hb57).symm)
          first | refine wa_aload_n (pc := 72) (y := mX6_levelIn) dX6_levelIn_72 rfl ?_ | refine wa_aload_nN (pc := 72) (y := mX6_levelIn) dX6_levelIn_72 rfl ?_ | refine wa_aload_nq (pc := 72) (y := mX6_levelIn) dX6_levelIn_72 rfl ?_
          refine wa_getf (pc := 73) (y := mX6_levelIn) (k := 5) 0 dX6_levelIn_73 mH_o rfl q2643 (Or.inl rfl) (Nat.le_of_ble_eq_true rfl) (by rfl) ?_
          refine wa_sipush (pc := 76) (y := mX6_levelIn) (Int32.ofNat 162) dX6_levelIn_76 rfl ?_
          refine wa_iconst (pc := 79) (y := mX6_levelIn) (Int32.ofNat 4) dX6_levelIn_79 rfl ?_
          refine wa_iload (pc := 80) (y := mX6_levelIn) dX6_levelIn_80 rfl ?_
          first | with_reducible refine wa_imulN (pc := 82) (y := mX6_levelIn) dX6_levelIn_82 ?_ | refine wa_imul (pc := 82) (y := mX6_levelIn) dX6_levelIn_82 ?_
          first | with_reducible refine wa_iaddN (pc := 83) (y := mX6_levelIn) dX6_levelIn_83 ?_ | refine wa_iadd (pc := 83) (y := mX6_levelIn) dX6_levelIn_83 ?_
          refine wa_iconst (pc := 84) (y := mX6_levelIn) (Int32.ofNat 2) dX6_levelIn_84 rfl ?_
          first | with_reducible refine wa_iaddN (pc := 85) (y := mX6_levelIn) dX6_levelIn_85 ?_ | refine wa_iadd (pc := 85) (y := mX6_levelIn) dX6_levelIn_85 ?_
          refine wa_ialoadN (pc := 86) (y := mX6_levelIn) dX6_levelIn_86 mH_1 (by omega) ?_
          refine wa_istore_n (pc := 87) (y := mX6_levelIn) dX6_levelIn_87 (Nat.le_of_ble_eq_true rfl) rfl ?_
          change WA _ _ _ _ (List.set _ 3 _) _ _ _
          simp only [List.set_cons_zero, List.set_cons_succ]
          rw [e]
          refine wa_goto (pc := 88) (y := mX6_levelIn) 110 dX6_levelIn_88 rfl ?_
          first | with_reducible refine wa_iincN (pc := 110) (y := mX6_levelIn) dX6_levelIn_110 rfl (Nat.le_of_ble_eq_true rfl) rfl ?_ | refine wa_iinc (pc := 110) (y := mX6_levelIn) (1) dX6_levelIn_110 rfl rfl (Nat.le_of_ble_eq_true rfl) rfl ?_
          simp only [List.set_cons_zero, List.set_cons_succ]
          refine wa_goto (pc := 113) (y := mX6_levelIn) 13 dX6_levelIn_113 rfl ?_
          exact ih (k + 1) _ (by omega)
        · have e := e0 (f (6 + c)) (by unfold lvS; rw [eg]; exact (if_pos hb57).symm)
          first | refine wa_aload_n (pc := 60) (y := mX6_levelIn) dX6_levelIn_60 rfl ?_ | refine wa_aload_nN (pc := 60) (y := mX6_levelIn) dX6_levelIn_60 rfl ?_ | refine wa_aload_nq (pc := 60) (y := mX6_levelIn) dX6_levelIn_60 rfl ?_
          refine wa_getf (pc := 61) (y := mX6_levelIn) (k := 5) 0 dX6_levelIn_61 mH_o rfl q2643 (Or.inl rfl) (Nat.le_of_ble_eq_true rfl) (by rfl) ?_
          refine wa_bipush (pc := 64) (y := mX6_levelIn) (Int32.ofNat 6) dX6_levelIn_64 rfl ?_
          refine wa_iload_n (pc := 66) (y := mX6_levelIn) dX6_levelIn_66 rfl ?_
          first | with_reducible refine wa_iaddN (pc := 67) (y := mX6_levelIn) dX6_levelIn_67 ?_ | refine wa_iadd (pc := 67) (y := mX6_levelIn) dX6_levelIn_67 ?_
          refine wa_ialoadN (pc := 68) (y := mX6_levelIn) dX6_levelIn_68 mH_1 (by omega) ?_
          refine wa_goto (pc := 69) (y := mX6_levelIn) 87 dX6_levelIn_69 rfl ?_
          refine wa_istore_n (pc := 87) (y := mX6_levelIn) dX6_levelIn_87 (Nat.le_of_ble_eq_true rfl) rfl ?_
          change WA _ _ _ _ (List.set _ 3 _) _ _ _
          simp only [List.set_cons_zero, List.set_cons_succ]
          rw [e]
          refine wa_goto (pc := 88) (y := mX6_levelIn) 110 dX6_levelIn_88 rfl ?_
          first | with_reducible refine wa_iincN (pc := 110) (y := mX6_levelIn) dX6_levelIn_110 rfl (Nat.le_of_ble_eq_true rfl) rfl ?_ | refine wa_iinc (pc := 110) (y := mX6_levelIn) (1) dX6_levelIn_110 rfl rfl (Nat.le_of_ble_eq_true rfl) rfl ?_
          simp only [List.set_cons_zero, List.set_cons_succ]
          refine wa_goto (pc := 113) (y := mX6_levelIn) 13 dX6_levelIn_113 rfl ?_
          exact ih (k + 1) _ (by omega)
  show WA _ _ _ 0 [.ref m, .int _, .int _, .retAddr 0, .retAddr 0, .retAddr 0] [] _ _
  first | refine wa_aload_n (pc := 0) (y := mX6_levelIn) dX6_levelIn_0 rfl ?_ | refine wa_aload_nN (pc := 0) (y := mX6_levelIn) dX6_levelIn_0 rfl ?_ | refine wa_aload_nq (pc := 0) (y := mX6_levelIn) dX6_levelIn_0 rfl ?_
  refine wa_getf (pc := 1) (y := mX6_levelIn) (k := 5) 0 dX6_levelIn_1 mH_o rfl q2643 (Or.inl rfl) (Nat.le_of_ble_eq_true rfl) (by rfl) ?_
  refine wa_bipush (pc := 4) (y := mX6_levelIn) (Int32.ofNat 6) dX6_levelIn_4 rfl ?_
  refine wa_iload_n (pc := 6) (y := mX6_levelIn) dX6_levelIn_6 rfl ?_
  first | with_reducible refine wa_iaddN (pc := 7) (y := mX6_levelIn) dX6_levelIn_7 ?_ | refine wa_iadd (pc := 7) (y := mX6_levelIn) dX6_levelIn_7 ?_
  refine wa_ialoadN (pc := 8) (y := mX6_levelIn) dX6_levelIn_8 mH_1 (by omega) ?_
  refine wa_istore_n (pc := 9) (y := mX6_levelIn) dX6_levelIn_9 (Nat.le_of_ble_eq_true rfl) rfl ?_
  change WA _ _ _ _ (List.set _ 3 _) _ _ _
  simp only [List.set_cons_zero, List.set_cons_succ]
  refine wa_iconst (pc := 10) (y := mX6_levelIn) (Int32.ofNat 0) dX6_levelIn_10 rfl ?_
  refine wa_istore (pc := 11) (y := mX6_levelIn) dX6_levelIn_11 (Nat.le_of_ble_eq_true rfl) rfl ?_
  simp only [List.set_cons_zero, List.set_cons_succ]
  exact key (p + 1) 0 _ (by omega)
end MODEL0
