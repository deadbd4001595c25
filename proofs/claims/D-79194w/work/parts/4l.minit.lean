/-! ===== blocks of new cells; CueStackModel's constructor ===== -/
/-- cells that were made one after the other, on top of a heap -/
def bH (h : AH) (cs : List AC) (n : Nat) : AH := (h.1 + cs.length, h.2.1 + n, fun a => if h.1 ≤ a ∧ a < h.1 + cs.length then cs[a - h.1]? else h.2.2 a)
theorem bH_new (h : AH) (cs : List AC) (n k j : Nat) (fs : List Value) : ah_new (bH h cs n) k fs j = bH h (cs ++ [(k, fs)]) (n + j) := by
  unfold ah_new bH
  refine Prod.ext ?_ (Prod.ext ?_ ?_)
  · show h.1 + cs.length + 1 = h.1 + (cs ++ [(k, fs)]).length
    rw [List.length_append]
    rfl
  · show h.2.1 + n + j = h.2.1 + (n + j)
    omega
  · funext b
    show (if b = h.1 + cs.length then some (k, fs) else if h.1 ≤ b ∧ b < h.1 + cs.length then cs[b - h.1]? else h.2.2 b) = (if h.1 ≤ b ∧ b < h.1 + (cs ++ [(k, fs)]).length then (cs ++ [(k, fs)])[b - h.1]? else h.2.2 b)
    have hl : (cs ++ [(k, fs)]).length = cs.length + 1 := by rw [List.length_append]; rfl
    by_cases e : b = h.1 + cs.length
    · rw [if_pos e, if_pos (by omega), e, Nat.add_sub_cancel_left, List.getElem?_append_right (Nat.le_refl _), Nat.sub_self]
      rfl
    · rw [if_neg e]
      by_cases e2 : h.1 ≤ b ∧ b < h.1 + cs.length
      · rw [if_pos e2, if_pos (by omega), List.getElem?_append_left (by omega)]
      · rw [if_neg e2, if_neg (by omega)]
theorem bH_upd (h : AH) (cs : List AC) (n i : Nat) (c : AC) (hi : i < cs.length) : ah_upd (bH h cs n) (h.1 + i) c = bH h (cs.set i c) n := by
  unfold ah_upd bH
  refine Prod.ext (by show h.1 + cs.length = h.1 + (cs.set i c).length; rw [List.length_set]) (Prod.ext rfl ?_)
  funext b
  show (if b = h.1 + i then some c else if h.1 ≤ b ∧ b < h.1 + cs.length then cs[b - h.1]? else h.2.2 b) = (if h.1 ≤ b ∧ b < h.1 + (cs.set i c).length then (cs.set i c)[b - h.1]? else h.2.2 b)
  rw [List.length_set]
  by_cases e : b = h.1 + i
  · rw [if_pos e, if_pos (by omega), e, Nat.add_sub_cancel_left, List.getElem?_set_self hi]
  · rw [if_neg e]
    by_cases e2 : h.1 ≤ b ∧ b < h.1 + cs.length
    · rw [if_pos e2, if_pos e2, List.getElem?_set_ne (by omega)]
    · rw [if_neg e2, if_neg e2]
theorem bH_at (h : AH) (cs : List AC) (n i : Nat) (hi : i < cs.length) : (bH h cs n).2.2 (h.1 + i) = cs[i]? := by
  show (if _ then _ else _) = _
  rw [if_pos (by omega), Nat.add_sub_cancel_left]
theorem bH_0 (h : AH) (c : AC) (cs : List AC) (n : Nat) : (bH h (c :: cs) n).2.2 h.1 = some c := bH_at h (c :: cs) n 0 (by rw [List.length_cons]; omega)
theorem bH_u0 (h : AH) (c c2 : AC) (cs : List AC) (n : Nat) : ah_upd (bH h (c :: cs) n) h.1 c2 = bH h (c2 :: cs) n := bH_upd h (c :: cs) n 0 c2 (by rw [List.length_cons]; omega)
theorem bH_1 (h : AH) (k n : Nat) (fs : List Value) : ah_new h k fs n = bH h [(k, fs)] n := by
  have := bH_new h [] 0 k n fs
  rw [Nat.zero_add] at this
  rw [show bH h [] 0 = h from by
    unfold bH
    refine Prod.ext rfl (Prod.ext rfl ?_)
    funext b
    show (if h.1 ≤ b ∧ b < h.1 + 0 then _ else h.2.2 b) = h.2.2 b
    rw [if_neg (by omega)]] at this
  exact this
theorem arI_rep (n : Nat) : List.replicate n (Value.int 0) = arI n (fun _ => 0) := by
  apply List.ext_getElem?
  intro i
  by_cases hi : i < n
  · rw [arI_get _ hi, List.getElem?_replicate, if_pos hi]
  · rw [List.getElem?_eq_none (by simp; omega), List.getElem?_eq_none (by simp [arI]; omega)]
/-- the fields of an object before its constructor -/
def mDef : List Value := [.null, .null, .null, .int 0, .null, .int 0, .int 0, .int 0, .null, .null, .int 0, .int 0, .int 0, .int 0, .null, .null, .int 0]
/-- the state behind the constructor -/
def mS0 : MS := (fun _ _ => 0, fun k => if k = 13 then -1 else 0)
theorem bH_m (h : AH) (n : Nat) : bH h [(5, mF h.1 mS0), (32, arI 462 fun _ => 0), (32, arI 462 fun _ => 0), (32, arI 462 fun _ => 0), (32, arI 2772 fun _ => 0), (32, arI 144 fun _ => 0), (34, arI 60 fun _ => 0), (34, arI 60 fun _ => 0), (32, arI 180 fun _ => 0)] n = mH (h.1 + 9, h.2.1 + n, h.2.2) h.1 (fun _ => 0) mS0 := by
  unfold bH mH
  refine Prod.ext rfl (Prod.ext rfl ?_)
  funext b
  show (if h.1 ≤ b ∧ b < h.1 + 9 then _ else h.2.2 b) = (if h.1 ≤ b ∧ b < h.1 + 9 then _ else h.2.2 b)
  by_cases e : h.1 ≤ b ∧ b < h.1 + 9
  · rw [if_pos e, if_pos e]
    obtain ⟨i, hi⟩ : ∃ i, b = h.1 + i := ⟨b - h.1, by omega⟩
    rw [hi, Nat.add_sub_cancel_left]
    have hi9 : i < 9 := by omega
    match i, hi9 with
    | 0, _ => rfl
    | 1, _ => rfl
    | 2, _ => rfl
    | 3, _ => rfl
    | 4, _ => rfl
    | 5, _ => rfl
    | 6, _ => rfl
    | 7, _ => rfl
    | 8, _ => rfl
    | k + 9, hk => exact absurd hk (by omega)
  · rw [if_neg e, if_neg e]
