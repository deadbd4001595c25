/-! ===== Math.ceil at a site: the native row that calls StrictMath.ceil (NOT PROVED YET) ===== -/
section MCEIL
variable {G : GG} {d n : Nat} {h : AH} {Q : RR → AH → Prop} {y : MD} {pc idx : Nat} {ls st : List Value} {s : Nat}
theorem wa_mceil (hG : StG G) (hs : 1 ≤ s ∧ s < 97) (hd : decode y.2.1 pc = .ok (.invokestatic idx, 3)) (hl : Cond.methodLink y.1.cls idx ⟨"java/lang/Math", "ceil", "(D)D"⟩ ∈ lw_all) (hcat : (st.map fun v => v.category).sum ≤ 8) (hd2 : 8 ≤ d)
    (kk : WA G d y (pc + 3) ls (.double (ceX s) :: st) h Q) : WA G d y pc ls (.double (qX s) :: st) h Q := by
  sorry
end MCEIL
