theorem nin4 {M : Nat → Prop} {a b c d q : Nat} (hM : M a ∧ M b ∧ M c ∧ M d) (h : ¬ M q) : q ∉ [a, b, c, d] := by
  simp only [List.mem_cons, List.not_mem_nil, or_false, not_or]
  exact ⟨fun e => h (e ▸ hM.1), fun e => h (e ▸ hM.2.1), fun e => h (e ▸ hM.2.2.1), fun e => h (e ▸ hM.2.2.2)⟩
theorem nin3 {M : Nat → Prop} {a b c d q : Nat} (hM : M a ∧ M b ∧ M c ∧ M d) (h : ¬ M q) : q ∉ [a, b, c] := by
  simp only [List.mem_cons, List.not_mem_nil, or_false, not_or]
  exact ⟨fun e => h (e ▸ hM.1), fun e => h (e ▸ hM.2.1), fun e => h (e ▸ hM.2.2.1)⟩
