/-! BOTH: letters come on the tape -/
section TYPEOP
variable {L : Nat} {xs : Nat → Int32} {σ τ : tvS} {t : Nat}
theorem type_op (h : RT t σ τ) (y : Int64) (v2 v3 v4 u2 u3 u4 : Value) (d : Nat) : ∃ t' σ' τ', RT t' σ' τ' ∧ rn L xs (d + 3) 9 0 [.ref 0, .long y, v2, v3, v4] [] σ = some (.inl (some (.int (i32 t'))), σ') ∧ rn L xs (d + 3) 283 0 [.ref 123, .long y, u2, u3, u4] [] τ = some (.inl (some (.int (i32 t'))), τ') ∧ (∀ k, STape k = false → ∀ i, rd σ' k i = rd σ k i) ∧ σ'.2 = σ.2 ∧ (∀ k i, ¬ (k = 124 ∨ k = 123 ∧ (i = 1 ∨ i = 0)) → rd τ' k i = rd τ k i) ∧ τ'.2 = τ.2 ∧ rd τ' 123 0 = 0 := by
  have h' : RT t σ (wr τ 123 0 0) := h.congr rfl (fun _ => rfl) (wr_nei (by decide)) (fun i => wr_nek (by decide))
  obtain ⟨t', σ', τ', a1, a2, a3, a4, a5, a6, a7⟩ := type_loop (L := L) (xs := xs) y d 8 t σ (wr τ 123 0 0) (jk v2) v4 (jk u2) u4 (Nat.le_refl _) h'
  refine ⟨t', σ', τ', a1, ?_, ?_, a4, a5, fun k i hk => ?_, a7, ?_⟩
  · rw [e9_0]; exact a2
  · rw [e283_0]; exact a3
  · rw [a6 k i (by omega)]
    by_cases c : k = 123
    · subst c; exact wr_nei (by omega)
    · exact wr_nek c
  · rw [a6 123 0 (by omega), wr_self]
end TYPEOP
