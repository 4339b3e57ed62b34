/-! BOTH: faults that are told, letters of what is put out, the tape made of it -/
section SIGNS
variable {L : Nat} {xs : Nat → Int32} {σ τ : tvS} {t : Nat}
theorem fault_op (h0 : rd σ 5 0 = rd τ 123 5) (h1 : rd σ 5 1 = rd τ 123 6) (x : Int32) (d : Nat) : ∃ y, rn L xs (d + 2) 10 0 [.ref 0, .int x] [] σ = some (.inl (some (.int y)), σ) ∧ rn L xs (d + 2) 371 0 [.ref 123, .int x] [] τ = some (.inl (some (.int y)), wr τ 123 0 0) := by
  by_cases c : x = 0
  · have p : rn L xs (d + 1) 42 0 [.ref 5] [] σ = some (.inl (some (.int (rd σ 5 0))), σ) := by rw [e42_0]
    refine ⟨rd σ 5 0, ?_, ?_⟩
    · rw [e10_0 (d + 1), show pv_c1 .ne x = false from decide_eq_false (not_not_intro c), cond_false, bI_ok p, e10_30]
    · rw [e371_0, show pv_c1 .ne x = false from decide_eq_false (not_not_intro c), cond_false, e371_29, h0]
  · by_cases c1 : x = 1
    · have p : rn L xs (d + 1) 43 0 [.ref 5] [] σ = some (.inl (some (.int (rd σ 5 1))), σ) := by rw [e43_0]
      refine ⟨rd σ 5 1, ?_, ?_⟩
      · rw [e10_0 (d + 1), show pv_c1 .ne x = true from decide_eq_true c, cond_true, e10_14 (d + 1), show pv_c2 .ne x 1 = false from decide_eq_false (not_not_intro c1), cond_false, bI_ok p, e10_30]
      · rw [e371_0, show pv_c1 .ne x = true from decide_eq_true c, cond_true, e371_16, show pv_c2 .ne x 1 = false from decide_eq_false (not_not_intro c1), cond_false, e371_29, wr_nei (by decide), h1]
    · refine ⟨i32 (-1), ?_, ?_⟩
      · rw [e10_0 (d + 1), show pv_c1 .ne x = true from decide_eq_true c, cond_true, e10_14 (d + 1), show pv_c2 .ne x 1 = true from decide_eq_true c1, cond_true, e10_29, e10_30, i32_raw]
      · rw [e371_0, show pv_c1 .ne x = true from decide_eq_true c, cond_true, e371_16, show pv_c2 .ne x 1 = true from decide_eq_true c1, cond_true, e371_28, e371_29, i32_raw]
theorem letter_op (h : RO t σ τ) (x : Int32) (d : Nat) : ∃ y, rn L xs (d + 2) 11 0 [.ref 0, .int x] [] σ = some (.inl (some (.int y)), σ) ∧ rn L xs (d + 2) 388 0 [.ref 123, .int x] [] τ = some (.inl (some (.int y)), wr τ 123 0 0) := by
  obtain ⟨h1, h2, h3, h4⟩ := h
  have p : rn L xs (d + 1) 36 0 [.ref 3] [] σ = some (.inl (some (.int (i32 (t : Int)))), σ) := by rw [e36b_0, h2]
  have em : rd τ 123 3 - 1 = i32 ((t : Int) - 1) := by rw [h3, show (1 : Int32) = i32 1 from rfl, i32_sub]
  have hr := range_m (L := L) (xs := xs) (σ := wr τ 123 0 0) (lo := 0) (hi := (t : Int) - 1) (by omega) (by omega) x d
  by_cases c : 0 ≤ x.toInt ∧ x.toInt ≤ (t : Int) - 1
  · have q : rn L xs (d + 1) 287 0 [.int x, .int 0, .int (i32 ((t : Int) - 1))] [] (wr τ 123 0 0) = some (.inl (some (.int 1)), wr τ 123 0 0) := hr.1 c
    obtain ⟨r, hr', ex⟩ : ∃ r : Nat, r < t ∧ x = i32 (r : Int) := ⟨x.toInt.toNat, by omega, by rw [Int.toNat_of_nonneg c.1, i32_of]⟩
    subst ex
    have p2 : rn L xs (d + 1) 37 0 [.ref 3, .int (i32 (r : Int))] [] σ = some (.inl (some (.int (rd σ 4 r))), σ) := by rw [e37_0, c_in (by omega) (by omega) (by omega), i32_ixn (by omega)]
    refine ⟨rd σ 4 r, ?_, ?_⟩
    · rw [e11_0 (d + 1), c1_lt (by omega) (by omega), c_f (by omega), bI_ok p, c2_ge (by omega) (by omega) (by omega) (by omega), c_f (by omega), bI_ok p2, e11_27]
    · rw [e388_0 (d + 1), em, bI_ok q, show pv_c1 .eq (1 : Int32) = false from rfl, cond_false, c_in (by omega) (by omega) (by omega), i32_ixn (by omega), e388_29, wr_nek (by decide), (h4 r hr').1]
  · have q : rn L xs (d + 1) 287 0 [.int x, .int 0, .int (i32 ((t : Int) - 1))] [] (wr τ 123 0 0) = some (.inl (some (.int 0)), wr τ 123 0 0) := hr.2 c
    refine ⟨i32 (-1), ?_, ?_⟩
    · rw [e11_0 (d + 1), c1_ltx]
      by_cases c2 : x.toInt < 0
      · rw [c_t c2, e11_26, e11_27, i32_raw]
      · rw [c_f c2, bI_ok p, c2_gex, i32_ti (by omega) (by omega), c_t (by omega), e11_26, e11_27, i32_raw]
    · rw [e388_0 (d + 1), em, bI_ok q, show pv_c1 .eq (0 : Int32) = true from rfl, cond_true, e388_28, e388_29, i32_raw]
end SIGNS
