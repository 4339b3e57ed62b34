/-! WHAT IS LEFT: the law's loop over the named machine -/
def LAWRUN : Prop := ∀ (L : Nat) (xs : Nat → Int32), L ≤ 256 → ∃ σ', rn L xs 1496 441 20 [.retAddr 0, .ref 0, .ref 123, .ref 238, jv, jv, jv] [] σ0 = some (.inl (some (.int 1)), σ')
theorem pure_of (h : LAWRUN) : PURE := by
  intro L xs hL
  obtain ⟨σ', hr⟩ := h L xs hL
  obtain ⟨n, h', e⟩ := start0 hr
  exact ⟨n, h', e⟩
theorem claim_of (h : LAWRUN) : Claimed_1_1 ∧ Claimed_1_2 := i_vc_of (pure_of h)
