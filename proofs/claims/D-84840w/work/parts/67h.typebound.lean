/-! THE TAPE grows by eight letters at most -/
section TYPEB
variable {L : Nat} {xs : Nat → Int32} {σ τ : tvS} {t : Nat}
theorem type_bound (y : Int64) (d : Nat) : ∀ (k : Nat) (t : Nat) (σ τ : tvS) (v2 v4 : Value), k ≤ 8 → RT t σ τ → ∃ (t' : Nat) (σ' : tvS), t' ≤ t + k ∧ t' ≤ 3000 ∧ rn L xs (d + 3) 9 3 [.ref 0, .long y, v2, .int (i32 (8 * (k : Int) - 8)), v4] [] σ = some (.inl (some (.int (i32 t'))), σ') := by
  intro k
  induction k with
  | zero =>
    intro t σ τ v2 v4 hk hR
    refine ⟨t, σ, by omega, hR.1, ?_⟩
    rw [e9_3 (d + 2), c1_lt (by omega) (by omega), c_t (by omega), e9_37 (d + 2), bI_ok (e36_0 (d + 1) σ), hR.2.1]
  | succ k ih =>
    intro t σ τ v2 v4 hk hR
    have hz : (8 * ((k + 1 : Nat) : Int) - 8) = ((8 * k : Nat) : Int) := by omega
    have hz2 : i32 ((8 * k : Nat) : Int) + Int32.ofInt (-8) = i32 (8 * (k : Int) - 8) := by
      rw [i32_raw, i32_add]; congr 1
    rw [hz]
    obtain ⟨m, hm, em⟩ := and_255 (y >>> ((i32 (8 * k : Nat)).toInt64 &&& 63))
    have hb := byte_same y (8 * k) (by omega)
    rw [em] at hb
    have ht := hR.1
    rw [e9_3 (d + 2), c1_lt (by omega) (by omega), c_f (by omega), hb, c1_eq (by omega) (by omega)]
    by_cases h0 : m = 0
    · rw [c_t (by omega), e9_31 (d + 2), hz2]
      obtain ⟨t', σ', q1, q2, q3⟩ := ih t σ τ (jk v2) (.int (i32 m)) (by omega) hR
      exact ⟨t', σ', by omega, q2, q3⟩
    · rw [c_f (by omega), bV_ok (add1 hR.2.1 hR.1 (d + 0) (i32 m)), e9_31 (d + 2), hz2]
      by_cases h1 : t = 3000
      · rw [if_pos h1]
        obtain ⟨t', σ', q1, q2, q3⟩ := ih t σ τ (jk (dj v2)) (.int (i32 m)) (by omega) hR
        exact ⟨t', σ', by omega, q2, q3⟩
      · rw [if_neg h1]
        have hR2 := hR.push (x := i32 m) (by omega) (by rw [i32_ti (by omega) (by omega)]; omega) (by rw [i32_ti (by omega) (by omega)]; omega)
        obtain ⟨t', σ', q1, q2, q3⟩ := ih (t + 1) _ _ (jk (dj v2)) (.int (i32 m)) (by omega) hR2
        exact ⟨t', σ', by omega, q2, q3⟩
/-- letters come on the tape, eight at most -/
theorem type_op8 (h : RT t σ τ) (y : Int64) (v2 v3 v4 u2 u3 u4 : Value) (d : Nat) : ∃ t' σ' τ', t' ≤ t + 8 ∧ RT t' σ' τ' ∧ rn L xs (d + 3) 9 0 [.ref 0, .long y, v2, v3, v4] [] σ = some (.inl (some (.int (i32 t'))), σ') ∧ rn L xs (d + 3) 283 0 [.ref 123, .long y, u2, u3, u4] [] τ = some (.inl (some (.int (i32 t'))), τ') ∧ (∀ k, STape k = false → ∀ i, rd σ' k i = rd σ k i) ∧ σ'.2 = σ.2 ∧ (∀ k i, ¬ (k = 124 ∨ k = 123 ∧ (i = 1 ∨ i = 0)) → rd τ' k i = rd τ k i) ∧ τ'.2 = τ.2 ∧ rd τ' 123 0 = 0 := by
  obtain ⟨t', σ', τ', a1, a2, a3⟩ := type_op (L := L) (xs := xs) h y v2 v3 v4 u2 u3 u4 d
  obtain ⟨t2, σ2, b1, b2, b3⟩ := type_bound (L := L) (xs := xs) y d 8 t σ τ (jk v2) v4 (Nat.le_refl _) h
  rw [e9_0] at a2
  have e := a2.symm.trans b3
  injection e with e
  injection e with e1 e2
  injection e1 with e1
  injection e1 with e1
  injection e1 with e1
  have et : t' = t2 := by
    have := (i32_inj (a := (t' : Int)) (b := (t2 : Int)) (by omega) (by have := a1.1; omega) (by omega) (by omega)).mp e1
    omega
  exact ⟨t', σ', τ', by omega, a1, by rw [e9_0]; exact a2, a3⟩
end TYPEB
