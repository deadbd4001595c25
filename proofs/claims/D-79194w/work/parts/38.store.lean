/-! ===== the heap as a shape and its contents ===== -/
/-- h's cells, with the contents F -/
def sF (h : AH) (F : Nat → Nat → Value) : AH := (h.1, h.2.1, fun b => match h.2.2 b with
  | none => none
  | some c => some (c.1, (List.range c.2.length).map (F b)))
def fvo (h : AH) (a i : Nat) : Value := match h.2.2 a with
  | none => .null
  | some c => c.2.getD i .null
/-- at a lies a cell of kind k and length l -/
def Is (h : AH) (a k l : Nat) : Prop := a < h.1 ∧ ∃ fs : List Value, h.2.2 a = some (k, fs) ∧ fs.length = l
theorem updF_ex : ∃ U : (Nat → Nat → Value) → Nat → Nat → Value → Nat → Nat → Value, ∀ F a i v b j, U F a i v b j = if b = a then if j = i then v else F b j else F b j := ⟨fun F a i v b j => if b = a then if j = i then v else F b j else F b j, fun _ _ _ _ _ _ => rfl⟩
noncomputable def updF : (Nat → Nat → Value) → Nat → Nat → Value → Nat → Nat → Value := Classical.choose updF_ex
theorem updF_eq (F : Nat → Nat → Value) (a i : Nat) (v : Value) (b j : Nat) : updF F a i v b j = if b = a then if j = i then v else F b j else F b j := Classical.choose_spec updF_ex F a i v b j
theorem newF_ex : ∃ U : (Nat → Nat → Value) → Nat → (Nat → Value) → Nat → Nat → Value, ∀ F a g b, U F a g b = if b = a then g else F b := ⟨fun F a g b => if b = a then g else F b, fun _ _ _ _ => rfl⟩
noncomputable def newF : (Nat → Nat → Value) → Nat → (Nat → Value) → Nat → Nat → Value := Classical.choose newF_ex
theorem newF_eq (F : Nat → Nat → Value) (a : Nat) (g : Nat → Value) (b : Nat) : newF F a g b = if b = a then g else F b := Classical.choose_spec newF_ex F a g b
theorem cpyF_ex : ∃ U : (Nat → Nat → Value) → Nat → Nat → Nat → Nat → Nat → Nat → Nat → Value, ∀ F a b sp dp n x j, U F a b sp dp n x j = if x = b then if dp ≤ j ∧ j < dp + n then F a (sp + (j - dp)) else F x j else F x j := ⟨fun F a b sp dp n x j => if x = b then if dp ≤ j ∧ j < dp + n then F a (sp + (j - dp)) else F x j else F x j, fun _ _ _ _ _ _ _ _ => rfl⟩
noncomputable def cpyF : (Nat → Nat → Value) → Nat → Nat → Nat → Nat → Nat → Nat → Nat → Value := Classical.choose cpyF_ex
theorem cpyF_eq (F : Nat → Nat → Value) (a b sp dp n x j : Nat) : cpyF F a b sp dp n x j = if x = b then if dp ≤ j ∧ j < dp + n then F a (sp + (j - dp)) else F x j else F x j := Classical.choose_spec cpyF_ex F a b sp dp n x j
def hNew (h : AH) (k l : Nat) : AH := ah_new h k (List.replicate l .null) l
/-- h2 has h's cells -/
def Ext (h h2 : AH) : Prop := h.1 ≤ h2.1 ∧ h.2.1 ≤ h2.2.1 ∧ ∀ a k l : Nat, Is h a k l → Is h2 a k l
section STORE
variable {h h2 h3 : AH} {F F2 : Nat → Nat → Value} {a b i j k l k2 l2 n : Nat} {v w : Value}
theorem map_getD (fs : List Value) : (List.range fs.length).map (fun i => fs.getD i .null) = fs := by
  apply List.ext_getElem?
  intro i
  by_cases hi : i < fs.length
  · simp [List.getD_eq_getElem?_getD, hi]
  · rw [List.getElem?_eq_none (by simp; omega), List.getElem?_eq_none (by omega)]
theorem sF_fvo (h : AH) : sF h (fvo h) = h := by
  obtain ⟨x, y, g⟩ := h
  unfold sF
  congr 2
  funext b
  show (match g b with | none => none | some c => some (c.1, (List.range c.2.length).map (fvo (x, y, g) b))) = g b
  cases e : g b with
  | none => rfl
  | some c =>
    obtain ⟨k, fs⟩ := c
    have : fvo (x, y, g) b = fun i => fs.getD i .null := by
      funext i
      simp only [fvo, e]
    simp only [this, map_getD]
theorem sF_re : sF (sF h F) F2 = sF h F2 := by
  unfold sF
  congr 2
  funext b
  show (match (match h.2.2 b with | none => none | some c => some (c.1, (List.range c.2.length).map (F b))) with | none => none | some c => some (c.1, (List.range c.2.length).map (F2 b))) = _
  cases h.2.2 b with
  | none => rfl
  | some c => simp
theorem sF_1 : (sF h F).1 = h.1 := rfl
theorem sF_2 : (sF h F).2.1 = h.2.1 := rfl
theorem sF_at (hi : Is h a k l) : (sF h F).2.2 a = some (k, (List.range l).map (F a)) := by
  obtain ⟨-, fs, e, rfl⟩ := hi
  simp only [sF, e]
theorem Is.lt (hi : Is h a k l) : a < h.1 := hi.1
theorem Is.uniq (hi : Is h a k l) (hj : Is h a k2 l2) : k = k2 ∧ l = l2 := by
  obtain ⟨-, fs, e, rfl⟩ := hi
  obtain ⟨-, gs, e2, rfl⟩ := hj
  cases e.symm.trans e2
  exact ⟨rfl, rfl⟩
theorem Is.ne (hi : Is h a k l) (hj : Is h b k2 l2) (hk : k ≠ k2) : a ≠ b := by
  rintro rfl
  exact hk (hi.uniq hj).1
theorem Is.re : Is (sF h F) a k l ↔ Is h a k l := by
  unfold Is
  constructor
  · rintro ⟨h1, fs, h2, h3⟩
    refine ⟨h1, ?_⟩
    simp only [sF] at h2
    cases e : h.2.2 a with
    | none => rw [e] at h2; cases h2
    | some c =>
      rw [e] at h2
      cases h2
      exact ⟨c.2, rfl, by rw [← h3]; simp⟩
  · rintro ⟨h1, fs, h2, h3⟩
    exact ⟨h1, (List.range l).map (F a), sF_at ⟨h1, fs, h2, h3⟩, by simp⟩
theorem sF_set (f : Nat → Value) (l i : Nat) (v : Value) : ((List.range l).map f).set i v = (List.range l).map (fun j => if j = i then v else f j) := by
  apply List.ext_getElem?
  intro j
  by_cases e : i = j
  · subst e
    by_cases hl : i < l
    · rw [List.getElem?_set_self (by simpa using hl)]
      simp [hl]
    · rw [List.getElem?_eq_none (by simp; omega), List.getElem?_eq_none (by simp; omega)]
  · rw [List.getElem?_set_ne e]
    by_cases hl : j < l
    · simp [hl, Ne.symm e]
    · rw [List.getElem?_eq_none (by simp; omega), List.getElem?_eq_none (by simp; omega)]
theorem sF_upd (hi : Is h a k l) : ah_upd (sF h F) a (k, ((List.range l).map (F a)).set i v) = sF h (updF F a i v) := by
  obtain ⟨-, fs, e, rfl⟩ := hi
  unfold ah_upd sF
  congr 2
  funext b
  by_cases eb : b = a
  · subst eb
    simp only [e, if_true, sF_set]
    congr 2
    apply List.map_congr_left
    intro j _
    simp [updF_eq]
  · simp only [if_neg eb]
    cases h.2.2 b with
    | none => rfl
    | some c =>
      simp only
      congr 2
      apply List.map_congr_left
      intro j _
      simp [updF_eq, eb]
theorem sF_new (g : Nat → Value) : ah_new (sF h F) k ((List.range l).map g) l = sF (hNew h k l) (newF F h.1 g) := by
  unfold ah_new hNew sF ah_new
  congr 2
  funext b
  by_cases eb : b = h.1
  · subst eb
    simp [newF_eq]
  · simp only [if_neg eb]
    cases h.2.2 b with
    | none => rfl
    | some c =>
      simp only
      congr 2
      apply List.map_congr_left
      intro j _
      simp [newF_eq, eb]
theorem Is.self : Is (hNew h k l) h.1 k l := ⟨Nat.lt_succ_self _, List.replicate l .null, if_pos rfl, by simp⟩
theorem Is.new (hi : Is h a k l) : Is (hNew h k2 l2) a k l := by
  obtain ⟨h1, fs, h2, h3⟩ := hi
  exact ⟨Nat.lt_succ_of_lt h1, fs, by show (if a = h.1 then _ else h.2.2 a) = _; rw [if_neg (by omega)]; exact h2, h3⟩
theorem Ext.refl : Ext h h := ⟨Nat.le_refl _, Nat.le_refl _, fun _ _ _ x => x⟩
theorem Ext.trans (e1 : Ext h h2) (e2 : Ext h2 h3) : Ext h h3 := ⟨Nat.le_trans e1.1 e2.1, Nat.le_trans e1.2.1 e2.2.1, fun a k l x => e2.2.2 a k l (e1.2.2 a k l x)⟩
theorem Ext.new : Ext h (hNew h k l) := ⟨Nat.le_succ _, Nat.le_add_right _ _, fun _ _ _ x => x.new⟩
theorem Is.ext (hi : Is h a k l) (e : Ext h h2) : Is h2 a k l := e.2.2 a k l hi
theorem hNew_1 : (hNew h k l).1 = h.1 + 1 := rfl
theorem hNew_2 : (hNew h k l).2.1 = h.2.1 + l := rfl
theorem updF_self (F : Nat → Nat → Value) (a i : Nat) (v : Value) : updF F a i v a i = v := by simp [updF_eq]
theorem updF_i (hj : j ≠ i) (e : F b j = w) : updF F a i v b j = w := by simp [updF_eq, hj, e]
theorem updF_a (hb : b ≠ a) (e : F b j = w) : updF F a i v b j = w := by simp [updF_eq, hb, e]
theorem newF_self {g : Nat → Value} (e : g j = w) : newF F a g a j = w := by simp [newF_eq, e]
theorem newF_a {g : Nat → Value} (hb : b ≠ a) (e : F b j = w) : newF F a g b j = w := by simp [newF_eq, hb, e]
theorem newF_lt {g : Nat → Value} (hi : Is h b k l) (e : F b j = w) : newF F h.1 g b j = w := newF_a (Nat.ne_of_lt hi.1) e
end STORE
/-- what the frame leaves alone -/
def Fr (P : Nat → Prop) (h : AH) (F : Nat → Nat → Value) (h2 : AH) (F2 : Nat → Nat → Value) : Prop := Ext h h2 ∧ ∀ b : Nat, b < h.1 → ¬ P b → F2 b = F b
section FR
variable {P P2 : Nat → Prop} {h h2 h3 : AH} {F F2 F3 : Nat → Nat → Value} {a b i k l n : Nat} {v : Value}
theorem Fr.refl : Fr P h F h F := ⟨Ext.refl, fun _ _ _ => rfl⟩
theorem Fr.mono (f : Fr P h F h2 F2) (hp : ∀ b, b < h.1 → P b → P2 b) : Fr P2 h F h2 F2 := ⟨f.1, fun b hb hn => f.2 b hb fun hp2 => hn (hp b hb hp2)⟩
theorem Fr.trans (f : Fr P h F h2 F2) (g : Fr P2 h2 F2 h3 F3) (hp : ∀ b, b < h.1 → P2 b → P b) : Fr P h F h3 F3 :=
  ⟨f.1.trans g.1, fun b hb hn => (g.2 b (Nat.lt_of_lt_of_le hb f.1.1) fun h9 => hn (hp b hb h9)).trans (f.2 b hb hn)⟩
theorem Fr.upd (ha : P a) : Fr P h F h (updF F a i v) := ⟨Ext.refl, fun b _ hn => by
  funext j
  exact updF_a (fun e => by subst e; exact hn ha) rfl⟩
theorem Fr.updT (f : Fr P h F h2 F2) (ha : P a ∨ h.1 ≤ a) : Fr P h F h2 (updF F2 a i v) := ⟨f.1, fun b hb hn => by
  have hne : b ≠ a := fun e => by
    subst e
    exact ha.elim hn (fun ha => by omega)
  funext j
  rw [updF_a hne rfl, f.2 b hb hn]⟩
theorem Fr.newT {g : Nat → Value} (f : Fr P h F h2 F2) : Fr P h F (hNew h2 k l) (newF F2 h2.1 g) := ⟨f.1.trans Ext.new, fun b hb hn => by
  funext j
  rw [newF_a (by have := f.1.1; omega) rfl, f.2 b hb hn]⟩
theorem Fr.cpyT {x y sp dp : Nat} (f : Fr P h F h2 F2) (ha : P y ∨ h.1 ≤ y) : Fr P h F h2 (cpyF F2 x y sp dp n) := ⟨f.1, fun b hb hn => by
  funext j
  have hby : b ≠ y := fun e => by
    subst e
    exact ha.elim hn (fun ha => by omega)
  simp only [cpyF_eq, if_neg hby, f.2 b hb hn]⟩
theorem Fr.at (f : Fr P h F h2 F2) (hb : b < h.1) (hn : ¬ P b) (j : Nat) : F2 b j = F b j := by rw [f.2 b hb hn]
theorem Fr.is (f : Fr P h F h2 F2) (hi : Is h a k l) : Is h2 a k l := hi.ext f.1
end FR
/-! rows -/
section SROWS
variable {G : GG} {d : Nat} {y : MD} {pc : Nat} {ls st : List Value} {h : AH} {F : Nat → Nat → Value} {Q : RR → AH → Prop}
theorem rg_get {f : Nat → Value} {l i : Nat} {v : Value} (hi : i < l) (hv : f i = v) : ((List.range l).map f)[i]? = some v := by simp [hi, hv]
theorem wf_get {idx a k l : Nat} {q : vw_C} {ref : String} (i : Nat) {v : Value} (hd : decode y.2.1 pc = .ok (.getfield idx, 3)) (hc : Is h a k l) (hk : kl[k]? = some q) (hl : Cond.fieldLink y.1.cls idx ref (q.2.1 i).2.1 (q.2.1 i).2.2.1 ∈ lw_all) (hs : samef ref (q.2.1 i)) (hi : i < q.2.2) (hil : i < l) (hv : F a i = v)
    (kk : WA G d y (pc + 3) ls (v :: st) (sF h F) Q) : WA G d y pc ls (.ref a :: st) (sF h F) Q := wa_getf i hd (sF_at hc) hk hl hs hi (rg_get hil hv) kk
theorem wf_getN {idx a k l : Nat} {q : vw_C} {ref host : String} (i : Nat) {v : Value} (hd : decode y.2.1 pc = .ok (.getfield idx, 3)) (hc : Is h a k l) (hk : kl[k]? = some q) (hl : Cond.fieldLinkNest y.1.cls idx ref (q.2.1 i).2.1 (q.2.1 i).2.2.1 host ∈ lw_tbl) (hs : samef ref (q.2.1 i)) (hi : i < q.2.2) (hil : i < l) (hv : F a i = v)
    (kk : WA G d y (pc + 3) ls (v :: st) (sF h F) Q) : WA G d y pc ls (.ref a :: st) (sF h F) Q := wa_getfN i hd (sF_at hc) hk hl hs hi (rg_get hil hv) kk
theorem wf_put {idx a k l : Nat} {q : vw_C} {ref : String} (i : Nat) {v : Value} (ty : FieldType) (hd : decode y.2.1 pc = .ok (.putfield idx, 3)) (hc : Is h a k l) (hk : kl[k]? = some q) (hl : Cond.fieldLink y.1.cls idx ref (q.2.1 i).2.1 (q.2.1 i).2.2.1 ∈ lw_all) (hs : samef ref (q.2.1 i)) (hi : i < q.2.2) (hfin : (q.2.1 i).2.2.2 = false) (hty : parseFieldDescriptor (q.2.1 i).2.2.1 = some ty) (hn : narrow ty v = v) (hfit : fits ty v = true)
    (kk : WA G d y (pc + 3) ls st (sF h (updF F a i v)) Q) : WA G d y pc ls (v :: .ref a :: st) (sF h F) Q := wa_putf i ty hd (sF_at hc) hk hl hs hi hfin hty hn hfit (by rw [sF_upd hc]; exact kk)
theorem wf_putN {idx a k l : Nat} {q : vw_C} {ref host : String} (i : Nat) {v : Value} (ty : FieldType) (hd : decode y.2.1 pc = .ok (.putfield idx, 3)) (hc : Is h a k l) (hk : kl[k]? = some q) (hl : Cond.fieldLinkNest y.1.cls idx ref (q.2.1 i).2.1 (q.2.1 i).2.2.1 host ∈ lw_tbl) (hs : samef ref (q.2.1 i)) (hi : i < q.2.2) (hfin : (q.2.1 i).2.2.2 = false) (hty : parseFieldDescriptor (q.2.1 i).2.2.1 = some ty) (hn : narrow ty v = v) (hfit : fits ty v = true)
    (kk : WA G d y (pc + 3) ls st (sF h (updF F a i v)) Q) : WA G d y pc ls (v :: .ref a :: st) (sF h F) Q := wa_putfN i ty hd (sF_at hc) hk hl hs hi hfin hty hn hfit (by rw [sF_upd hc]; exact kk)
end SROWS
section SROWS2
variable {G : GG} {d : Nat} {y : MD} {pc : Nat} {ls st : List Value} {h : AH} {F : Nat → Nat → Value} {Q : RR → AH → Prop}
theorem wf_putF {idx a k l : Nat} {q : vw_C} {ref : String} (i : Nat) {v : Value} (ty : FieldType) (hd : decode y.2.1 pc = .ok (.putfield idx, 3)) (hc : Is h a k l) (hk : kl[k]? = some q) (hl : Cond.fieldLink y.1.cls idx ref (q.2.1 i).2.1 (q.2.1 i).2.2.1 ∈ lw_all) (hs : samef ref (q.2.1 i)) (hi : i < q.2.2) (hfin : (q.2.1 i).2.2.2 = true) (hinit : y.1.name = "<init>") (hdecl : (q.2.1 i).1 = y.1.cls) (hty : parseFieldDescriptor (q.2.1 i).2.2.1 = some ty) (hn : narrow ty v = v) (hfit : fits ty v = true)
    (kk : WA G d y (pc + 3) ls st (sF h (updF F a i v)) Q) : WA G d y pc ls (v :: .ref a :: st) (sF h F) Q := wa_putfF i ty hd (sF_at hc) hk hl hs hi hfin hinit hdecl hty hn hfit (by rw [sF_upd hc]; exact kk)
theorem wf_new {idx k l : Nat} {q : vw_C} (L : List Value) (ty : Nat → FieldType) (hd : decode y.2.1 pc = .ok (.new idx, 3)) (hk : kl[k]? = some q) (hcl : Cond.classLink y.1.cls idx q.1 ∈ lw_all) (hinst : Cond.instantiable q.1 q.2.2 ∈ lw_all) (hini : Cond.initialized q.1 ∈ lw_all) (hty : ∀ j, j < q.2.2 → parseFieldDescriptor (q.2.1 j).2.2.1 = some (ty j)) (hfs : (List.range q.2.2).map (fun j => defaultValue (ty j)) = L) (hll : q.2.2 = l)
    (kk : WA G d y (pc + 3) ls (.ref h.1 :: st) (sF (hNew h k l) (newF F h.1 (fun i => L.getD i .null))) Q) : WA G d y pc ls st (sF h F) Q :=
  wa_new L ty hd hk hcl hinst hini hty hfs (by
    subst hll
    rw [← sF_new] at kk
    rw [show (List.range q.2.2).map (fun i => L.getD i Value.null) = L by rw [show q.2.2 = L.length by rw [← hfs]; simp, map_getD]] at kk
    exact kk)
theorem newL_self {a i : Nat} {L : List Value} {w : Value} (e : L[i]? = some w) : newF F a (fun i => L.getD i .null) a i = w := newF_self (by simp [List.getD_eq_getElem?_getD, e])
theorem rep_map (l : Nat) (v : Value) : List.replicate l v = (List.range l).map (fun _ => v) := by
  apply List.ext_getElem?
  intro i
  by_cases hi : i < l
  · simp [hi]
  · rw [List.getElem?_eq_none (by simp; omega), List.getElem?_eq_none (by simp; omega)]
theorem wf_newarray {at9 : ArrayType} {l : Nat} (k : Nat) (hd : decode y.2.1 pc = .ok (.newarray at9, 2)) (hb : l < 2147483648 ∧ l * componentBytes (newarray.typeOf at9) ≤ 536870912) (ha : at9 = .int ∧ k = 32 ∨ at9 = .long ∧ k = 33 ∨ at9 = .char ∧ k = 34) (hw : Cond.arrayClass (newarray.typeOf at9) ∈ lw_all)
    (kk : WA G d y (pc + 2) ls (.ref h.1 :: st) (sF (hNew h k l) (newF F h.1 (fun _ => defaultValue (newarray.typeOf at9)))) Q) : WA G d y pc ls (.int (Int32.ofNat l) :: st) (sF h F) Q :=
  wa_newarray l k hd (iN_toInt hb.1) hb.2 ha hw (by
    rw [← sF_new] at kk
    rw [rep_map]
    exact kk)
theorem wf_anewarray {idx l : Nat} {E : String} (k : Nat) (hd : decode y.2.1 pc = .ok (.anewarray idx, 3)) (hb : l * 4 ≤ 536870912) (ha : E = "java/lang/Object" ∧ k = 35 ∨ E = "java/util/HashMap$Node" ∧ k = 36) (hcl : Cond.classLink y.1.cls idx E ∈ lw_all) (hw : Cond.arrayOver (.object E) ∈ lw_tbl)
    (kk : WA G d y (pc + 3) ls (.ref h.1 :: st) (sF (hNew h k l) (newF F h.1 (fun _ => .null))) Q) : WA G d y pc ls (.int (Int32.ofNat l) :: st) (sF h F) Q :=
  wa_anewarray l k hd (iN_toInt (by omega)) hb ha hcl hw (by
    rw [← sF_new] at kk
    rw [rep_map]
    exact kk)
theorem wf_aaload {a k l j : Nat} {v : Value} (hd : decode y.2.1 pc = .ok (.aaload, 1)) (hc : Is h a k l) (hk : k = 35 ∨ k = 36) (hj : j < l ∧ l < 2147483648) (hv : F a j = v) (kk : WA G d y (pc + 1) ls (v :: st) (sF h F) Q) : WA G d y pc ls (.int (Int32.ofNat j) :: .ref a :: st) (sF h F) Q :=
  wa_aaload j hd (sF_at hc) hk (iN_toInt (by omega)) (rg_get hj.1 hv) kk
theorem wf_iaload {a l j : Nat} {v : Value} (hd : decode y.2.1 pc = .ok (.iaload, 1)) (hc : Is h a 32 l) (hj : j < l ∧ l < 2147483648) (hv : F a j = v) (kk : WA G d y (pc + 1) ls (v :: st) (sF h F) Q) : WA G d y pc ls (.int (Int32.ofNat j) :: .ref a :: st) (sF h F) Q :=
  wa_iaload j hd (sF_at hc) (iN_toInt (by omega)) (rg_get hj.1 hv) kk
theorem wf_caload {a l j : Nat} {v : Value} (hd : decode y.2.1 pc = .ok (.caload, 1)) (hc : Is h a 34 l) (hj : j < l ∧ l < 2147483648) (hv : F a j = v) (kk : WA G d y (pc + 1) ls (v :: st) (sF h F) Q) : WA G d y pc ls (.int (Int32.ofNat j) :: .ref a :: st) (sF h F) Q :=
  wa_caload j hd (sF_at hc) (iN_toInt (by omega)) (rg_get hj.1 hv) kk
theorem wf_iastore {a l j : Nat} {z : Int32} (hd : decode y.2.1 pc = .ok (.iastore, 1)) (hc : Is h a 32 l) (hj : j < l ∧ l < 2147483648) (kk : WA G d y (pc + 1) ls st (sF h (updF F a j (.int z))) Q) : WA G d y pc ls (.int z :: .int (Int32.ofNat j) :: .ref a :: st) (sF h F) Q :=
  wa_iastore j hd (sF_at hc) (iN_toInt (by omega)) (by simp; omega) (by rw [sF_upd hc]; exact kk)
theorem wf_castore {a l j : Nat} {z : Int32} (hd : decode y.2.1 pc = .ok (.castore, 1)) (hc : Is h a 34 l) (hj : j < l ∧ l < 2147483648) (kk : WA G d y (pc + 1) ls st (sF h (updF F a j (narrow .char (.int z)))) Q) : WA G d y pc ls (.int z :: .int (Int32.ofNat j) :: .ref a :: st) (sF h F) Q :=
  wa_castore j hd (sF_at hc) (iN_toInt (by omega)) (by simp; omega) (by rw [sF_upd hc]; exact kk)
theorem wf_aastore {a b k kb l lb j : Nat} {q : vw_C} (E : String) (hd : decode y.2.1 pc = .ok (.aastore, 1)) (hc : Is h a k l) (hk : k = 35 ∧ E = "java/lang/Object" ∨ k = 36 ∧ E = "java/util/HashMap$Node") (hj : j < l ∧ l < 2147483648) (hb : Is h b kb lb) (hkb : kl[kb]? = some q) (hkin : kinOf E q.1) (kk : WA G d y (pc + 1) ls st (sF h (updF F a j (.ref b))) Q) : WA G d y pc ls (.ref b :: .int (Int32.ofNat j) :: .ref a :: st) (sF h F) Q :=
  wa_aastore j E hd (sF_at hc) hk (iN_toInt (by omega)) (by simp; omega) (sF_at hb) hkb hkin (by rw [sF_upd hc]; exact kk)
theorem wf_aastoreN {a k l j : Nat} (hd : decode y.2.1 pc = .ok (.aastore, 1)) (hc : Is h a k l) (hk : k = 35 ∨ k = 36) (hj : j < l ∧ l < 2147483648) (kk : WA G d y (pc + 1) ls st (sF h (updF F a j .null)) Q) : WA G d y pc ls (.null :: .int (Int32.ofNat j) :: .ref a :: st) (sF h F) Q :=
  wa_aastoreN j hd (sF_at hc) hk (iN_toInt (by omega)) (by simp; omega) (by rw [sF_upd hc]; exact kk)
theorem wf_alen {a k l : Nat} (hd : decode y.2.1 pc = .ok (.arraylength, 1)) (hc : Is h a k l) (hk : k = 32 ∨ k = 33 ∨ k = 34 ∨ k = 35 ∨ k = 36 ∨ k = 43) (kk : WA G d y (pc + 1) ls (.int (Int32.ofNat l) :: st) (sF h F) Q) : WA G d y pc ls (.ref a :: st) (sF h F) Q := by
  have e : (.int (Int32.ofNat l) : Value) = .int (nI ((List.range l).map (F a)).length) := by rw [List.length_map, List.length_range]; rfl
  rw [e] at kk
  by_cases h9 : k = 43
  · subst h9
    exact wa_alenR (.object "java/lang/Object") hd (sF_at hc) (by decide) (by decide) rfl kk
  · exact wa_alen hd (sF_at hc) (by omega) kk
/-- what is copied into an array of the kind -/
def cpK (h : AH) (k : Nat) (v : Value) : Prop := k = 32 ∧ (∃ x : Int32, v = .int x) ∨ k = 35 ∧ (v = .null ∨ ∃ (b kb lb : Nat) (q : vw_C), v = .ref b ∧ Is h b kb lb ∧ kl[kb]? = some q ∧ kinOf "java/lang/Object" q.1)
theorem cpK.ext {h h2 : AH} {k : Nat} {v : Value} (c : cpK h k v) (e : Ext h h2) : cpK h2 k v := c.imp (fun x => x) (fun x => ⟨x.1, x.2.imp (fun x => x) (fun ⟨b, kb, lb, q, h1, h2, h3⟩ => ⟨b, kb, lb, q, h1, h2.ext e, h3⟩)⟩)
theorem cpK.new {h : AH} {k kk l : Nat} {v : Value} (c : cpK h k v) : cpK (hNew h kk l) k v := c.ext Ext.new
theorem wf_copy {a b k l m sp dp n idx : Nat} (hd : decode y.2.1 pc = .ok (.invokestatic idx, 3)) (hl : Cond.methodLink y.1.cls idx arraycopyName ∈ lw_all) (hnat : Cond.native arraycopyName ∈ lw_all) (hstat : Cond.static arraycopyName ∈ lw_all) (hini : Cond.initialized "java/lang/System" ∈ lw_all)
    (ha : Is h a k l) (hb : Is h b k m) (hs : sp + n ≤ l ∧ dp + n ≤ m ∧ l < 2147483648 ∧ m < 2147483648) (hok : ∀ i, i < n → cpK h k (F a (sp + i))) (hk : k = 32 ∨ k = 35) (hcat : (st.map fun v => v.category).sum ≤ 8) (hd2 : 0 < d)
    (kk : WA G d y (pc + 3) ls st (sF h (cpyF F a b sp dp n)) Q) : WA G d y pc ls (.int (Int32.ofNat n) :: .int (Int32.ofNat dp) :: .ref b :: .int (Int32.ofNat sp) :: .ref a :: st) (sF h F) Q := by
  refine wa_copy (k := k) sp dp n hd hl hnat hstat hini (sF_at ha) (sF_at hb) (by omega) (iN_toInt (by omega)) (iN_toInt (by omega)) (iN_toInt (by omega)) (by simp; omega) (by simp; omega) (fun i hi v hv => ?_) hcat hd2 ?_
  · rw [List.getElem?_map, List.getElem?_range (by omega)] at hv
    have hv := Option.some.inj hv
    rcases hok i hi with ⟨e, x, hx⟩ | ⟨e, e2 | ⟨b9, kb, lb, q, e2, hI, hq, hK⟩⟩
    · exact Or.inl ⟨e, x, hv.symm.trans hx⟩
    · exact Or.inr ⟨Or.inl e, Or.inl (hv.symm.trans e2)⟩
    · exact Or.inr ⟨Or.inl e, Or.inr ⟨b9, kb, _, q, hv.symm.trans e2, sF_at hI, hq, by rw [if_pos e]; exact hK⟩⟩
  · have e : ah_upd (sF h F) b (k, cpL ((List.range l).map (F a)) ((List.range m).map (F b)) sp dp n) = sF h (cpyF F a b sp dp n) := by
      obtain ⟨-, fs, e, rfl⟩ := hb
      unfold ah_upd sF
      congr 2
      funext x
      by_cases ex : x = b
      · subst ex
        simp only [e, if_true, cpL, List.length_map, List.length_range]
        congr 2
        apply List.map_congr_left
        intro j hj
        have hj := List.mem_range.mp hj
        simp only [cpyF_eq, if_true]
        by_cases e2 : dp ≤ j ∧ j < dp + n
        · rw [if_pos e2, if_pos e2]
          simp [List.getD_eq_getElem?_getD, show sp + (j - dp) < l by omega]
        · rw [if_neg e2, if_neg e2]
          simp [List.getD_eq_getElem?_getD, hj]
      · simp only [if_neg ex]
        cases h.2.2 x with
        | none => rfl
        | some c =>
          simp only
          congr 2
          apply List.map_congr_left
          intro j _
          simp [cpyF_eq, ex]
    rw [e]
    exact kk
/-- references, or null -/
theorem wa_areturnq {x : Option Nat} (ty : FieldType) (hd : decode y.2.1 pc = .ok (.areturn, 1)) (hr : y.2.2.2.1 = some ty) (ht9 : (∃ n, ty = .object n) ∨ ∃ t, ty = .array t) (hQ : Q (.inl (some (va_rf x))) h) : WA G d y pc ls [va_rf x] h Q := by
  cases x with
  | none => exact wa_areturn ty hd hr ht9 (Or.inl rfl) hQ
  | some a => exact wa_areturn ty hd hr ht9 (Or.inr ⟨a, rfl⟩) hQ
theorem wa_top {v w : Value} (e : v = w) (k : WA G d y pc ls (w :: st) h Q) : WA G d y pc ls (v :: st) h Q := by rw [e]; exact k
end SROWS2
/-- kinds that may be stored into an Object array -/
theorem kinObj {k : Nat} {q : vw_C} (hk : kl[k]? = some q) (h : k = 1 ∨ k = 2 ∨ k = 6 ∨ k = 10) : kinOf "java/lang/Object" q.1 := by
  rcases h with rfl | rfl | rfl | rfl
  · cases hk; exact Or.inr q3116
  · cases hk; exact Or.inr q3119
  · cases hk; exact Or.inr q3123
  · cases hk; exact Or.inr q3147
/-! a reference or null, as an Option -/
theorem rf_s (a : Nat) : Value.ref a = va_rf (some a) := rfl
theorem rf_n : Value.null = va_rf none := rfl
theorem rf_q (x : Option Nat) : va_rf x = va_rf x := rfl
theorem rf_inj {x z : Option Nat} (h : va_rf x = va_rf z) : x = z := by
  cases x <;> cases z <;> simp_all [va_rf]
theorem rf_cat (x : Option Nat) : (va_rf x).category = 1 := by cases x <;> rfl
section VROWS
variable {G : GG} {d : Nat} {y : MD} {pc : Nat} {ls st : List Value} {h : AH} {F : Nat → Nat → Value} {Q : RR → AH → Prop} {v w : Value} {x z : Option Nat} {off : Int}
theorem wa_ifnullV (tgt : Nat) (hd : decode y.2.1 pc = .ok (.ifnull off, 3)) (ht : (pc : Int) + off = (tgt : Int)) (e : v = va_rf x) (kt : x = none → WA G d y tgt ls st h Q) (kf : ∀ a, x = some a → WA G d y (pc + 3) ls st h Q) : WA G d y pc ls (v :: st) h Q := by
  subst e
  exact wa_ifnullq tgt hd ht kt kf
theorem wa_ifnonnullV (tgt : Nat) (hd : decode y.2.1 pc = .ok (.ifnonnull off, 3)) (ht : (pc : Int) + off = (tgt : Int)) (e : v = va_rf x) (kt : ∀ a, x = some a → WA G d y tgt ls st h Q) (kf : x = none → WA G d y (pc + 3) ls st h Q) : WA G d y pc ls (v :: st) h Q := by
  subst e
  exact wa_ifnonnullq tgt hd ht kt kf
theorem wa_aceqV (tgt : Nat) (hd : decode y.2.1 pc = .ok (.if_acmp .eq off, 3)) (ht : (pc : Int) + off = (tgt : Int)) (e1 : v = va_rf x) (e2 : w = va_rf z) (kt : x = z → WA G d y tgt ls st h Q) (kf : ¬ x = z → WA G d y (pc + 3) ls st h Q) : WA G d y pc ls (w :: v :: st) h Q := by
  subst e1 e2
  exact wa_acmp_eq tgt hd ht kt kf
theorem wa_acneV (tgt : Nat) (hd : decode y.2.1 pc = .ok (.if_acmp .ne off, 3)) (ht : (pc : Int) + off = (tgt : Int)) (e1 : v = va_rf x) (e2 : w = va_rf z) (kt : ¬ x = z → WA G d y tgt ls st h Q) (kf : x = z → WA G d y (pc + 3) ls st h Q) : WA G d y pc ls (w :: v :: st) h Q := by
  subst e1 e2
  exact wa_acmp_ne tgt hd ht kt kf
theorem wa_areturnV (ty : FieldType) (hd : decode y.2.1 pc = .ok (.areturn, 1)) (hr : y.2.2.2.1 = some ty) (ht9 : (∃ n, ty = .object n) ∨ ∃ t, ty = .array t) (e : v = va_rf x) (hQ : Q (.inl (some v)) h) : WA G d y pc ls [v] h Q := by
  subst e
  exact wa_areturnq ty hd hr ht9 hQ
theorem wa_aloadV_n {i : Fin 4} (hd : decode y.2.1 pc = .ok (.aload_n i, 1)) (hl : ls[(i : Nat)]? = some v) (e : v = va_rf x) (k : WA G d y (pc + 1) ls (v :: st) h Q) : WA G d y pc ls st h Q := by
  subst e
  exact wa_aload_nq hd hl k
theorem wa_aloadV {i : Nat} (hd : decode y.2.1 pc = .ok (.aload i, 2)) (hl : ls[i]? = some v) (e : v = va_rf x) (k : WA G d y (pc + 2) ls (v :: st) h Q) : WA G d y pc ls st h Q := by
  subst e
  exact wa_aloadq hd hl k
theorem wa_astoreV_n {i : Fin 4} (hd : decode y.2.1 pc = .ok (.astore_n i, 1)) (hn : (i : Nat) < y.2.2.1) (ho : okst ls i = true) (e : v = va_rf x) (k : WA G d y (pc + 1) (ls.set i v) st h Q) : WA G d y pc ls (v :: st) h Q := by
  subst e
  exact wa_astore_nq hd hn ho k
theorem wa_astoreV {i : Nat} (hd : decode y.2.1 pc = .ok (.astore i, 2)) (hn : i < y.2.2.1) (ho : okst ls i = true) (e : v = va_rf x) (k : WA G d y (pc + 2) (ls.set i v) st h Q) : WA G d y pc ls (v :: st) h Q := by
  subst e
  exact wa_astoreq hd hn ho k
theorem wf_aastoreV {a k l j : Nat} (E : String) (hd : decode y.2.1 pc = .ok (.aastore, 1)) (hc : Is h a k l) (hk : k = 35 ∧ E = "java/lang/Object" ∨ k = 36 ∧ E = "java/util/HashMap$Node") (hj : j < l ∧ l < 2147483648) (e : v = va_rf x) (hb : ∀ b, x = some b → ∃ (kb lb : Nat) (q : vw_C), Is h b kb lb ∧ kl[kb]? = some q ∧ kinOf E q.1) (kk : WA G d y (pc + 1) ls st (sF h (updF F a j v)) Q) : WA G d y pc ls (v :: .int (Int32.ofNat j) :: .ref a :: st) (sF h F) Q := by
  subst e
  cases x with
  | none => exact wf_aastoreN hd hc (by omega) hj kk
  | some b =>
    obtain ⟨kb, lb, q, h1, h2, h3⟩ := hb b rfl
    exact wf_aastore E hd hc hk hj h1 h2 h3 kk
end VROWS
/-! nodes of a map: kind 13 or 14 -/
def Nd (h : AH) (p : Nat) : Prop := Is h p 13 6 ∨ Is h p 14 11
theorem Nd.lt {h : AH} {p : Nat} (n : Nd h p) : p < h.1 := n.elim (·.1) (·.1)
theorem Nd.ext {h h2 : AH} {p : Nat} (n : Nd h p) (e : Ext h h2) : Nd h2 p := n.imp (·.ext e) (·.ext e)
theorem Nd.new {h : AH} {p k l : Nat} (n : Nd h p) : Nd (hNew h k l) p := n.imp (·.new) (·.new)
theorem Nd.ne {h : AH} {p a k l : Nat} (n : Nd h p) (i : Is h a k l) (h1 : k ≠ 13) (h2 : k ≠ 14) : p ≠ a := n.elim (fun x => x.ne i (Ne.symm h1)) (fun x => x.ne i (Ne.symm h2))
theorem Nd.stor {h : AH} {p : Nat} (n : Nd h p) : ∃ (kb lb : Nat) (q : vw_C), Is h p kb lb ∧ kl[kb]? = some q ∧ kinOf "java/util/HashMap$Node" q.1 :=
  n.elim (fun x => ⟨13, 6, _, x, rfl, Or.inr q3151⟩) (fun x => ⟨14, 11, _, x, rfl, Or.inr q3152⟩)
section NROW2
variable {G : GG} {d : Nat} {y : MD} {pc : Nat} {ls st : List Value} {h : AH} {F : Nat → Nat → Value} {Q : RR → AH → Prop}
theorem TJ_same {i : Nat} (hi : i < 6) : TJ26 i = TJ25 i := by
  match i, hi with
  | 0, _ => rfl
  | 1, _ => rfl
  | 2, _ => rfl
  | 3, _ => rfl
  | 4, _ => rfl
  | 5, _ => rfl
  | n + 6, h => omega
theorem wn_get {idx a : Nat} {ref : String} (i : Nat) {v : Value} (hd : decode y.2.1 pc = .ok (.getfield idx, 3)) (hc : Nd h a) (hl : Cond.fieldLink y.1.cls idx ref (TJ25 i).2.1 (TJ25 i).2.2.1 ∈ lw_all) (hs : samef ref (TJ25 i)) (hi : i < 6) (hv : F a i = v)
    (kk : WA G d y (pc + 3) ls (v :: st) (sF h F) Q) : WA G d y pc ls (.ref a :: st) (sF h F) Q := by
  rcases hc with hc | hc
  · exact wf_get (k := 13) i hd hc rfl hl hs hi hi hv kk
  · exact wf_get (k := 14) (q := (RJ26, TJ26, 11)) i hd hc rfl (by rw [← TJ_same hi] at hl; exact hl) (by rw [← TJ_same hi] at hs; exact hs) (by show i < 11; omega) (by omega) hv kk
theorem wn_put {idx a : Nat} {ref : String} (i : Nat) {v : Value} (ty : FieldType) (hd : decode y.2.1 pc = .ok (.putfield idx, 3)) (hc : Nd h a) (hl : Cond.fieldLink y.1.cls idx ref (TJ25 i).2.1 (TJ25 i).2.2.1 ∈ lw_all) (hs : samef ref (TJ25 i)) (hi : i < 6) (hfin : (TJ25 i).2.2.2 = false) (hty : parseFieldDescriptor (TJ25 i).2.2.1 = some ty) (hn : narrow ty v = v) (hfit : fits ty v = true)
    (kk : WA G d y (pc + 3) ls st (sF h (updF F a i v)) Q) : WA G d y pc ls (v :: .ref a :: st) (sF h F) Q := by
  rcases hc with hc | hc
  · exact wf_put (k := 13) i ty hd hc rfl hl hs hi hfin hty hn hfit kk
  · exact wf_put (k := 14) (q := (RJ26, TJ26, 11)) i ty hd hc rfl (by rw [← TJ_same hi] at hl; exact hl) (by rw [← TJ_same hi] at hs; exact hs) (by show i < 11; omega) (by rw [← TJ_same hi] at hfin; exact hfin) (by rw [← TJ_same hi] at hty; exact hty) hn hfit kk
end NROW2
theorem rf_nar {n : String} (x : Option Nat) : narrow (.object n) (va_rf x) = va_rf x := by cases x <;> rfl
theorem rf_nar2 {t : FieldType} (x : Option Nat) : narrow (.array t) (va_rf x) = va_rf x := by cases x <;> rfl
theorem rf_fit {n : String} (x : Option Nat) : fits (.object n) (va_rf x) = true := by cases x <;> rfl
theorem rf_fit2 {t : FieldType} (x : Option Nat) : fits (.array t) (va_rf x) = true := by cases x <;> rfl
