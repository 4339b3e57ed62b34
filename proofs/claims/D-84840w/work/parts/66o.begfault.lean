/-! BOTH IN ONE MEMORY: begin with its fault; no collection where nothing is there -/
section FAULTS2
variable {L : Nat} {xs : Nat → Int32} {σ τ : tvS}
/-- begin goes wrong, or begins; the component -/
theorem begfault_c (v1 : Value) (d : Nat) : (xnOK σ = true → rd σ 0 14 = 0 → rn L xs (d + 4) 5 0 [.ref 0, v1] [] σ = some (.inl (some (.int 1)), xn σ)) ∧ (rd σ 0 14 ≠ 0 → ∀ σ1, rn L xs (d + 2) 258 0 [.ref 117, jv] [] σ = some (.inl none, σ1) → rn L xs (d + 4) 5 0 [.ref 0, v1] [] σ = some (.inl (some (.int 0)), σ1)) := by
  refine ⟨fun hx h0 => ?_, fun h0 σ1 hg => ?_⟩
  · have p1 : rn L xs (d + 2) 24 0 [.int (rd σ 0 14)] [] σ = some (.inr (1018, (rm σ).1), xn σ) := by rw [h0, e24_0, show pv_c1 .ne (0 : Int32) = false from rfl, cond_false, hx, cond_true]
    have p2 : rn L xs (d + 3) 30 0 [.ref 0] [] σ = some (.inr (1018, (rm σ).1), xn σ) := by rw [e30_0 (d + 2), bV_ex p1]; rfl
    rw [e5_0 (d + 3), bV_ex p2, hnd5]
    exact e5_7 _ _ _ _ _
  · have p1 : rn L xs (d + 2) 24 0 [.int (rd σ 0 14)] [] σ = some (.inl none, σ) := by rw [e24_0, show pv_c1 .ne (rd σ 0 14) = true from decide_eq_true h0, cond_true, e24_12]
    have p2 : rn L xs (d + 3) 30 0 [.ref 0] [] σ = some (.inl none, σ1) := by rw [e30_0 (d + 2), bV_ok p1, bV_ok hg]
    rw [e5_0 (d + 3), bV_ok p2, e5_10]
/-- the model -/
theorem begfault_m (v1 v2 v3 : Value) (d : Nat) : (rd τ 123 7 = 0 → rn L xs (d + 2) 394 0 [.ref 123, v1, v2, v3] [] τ = some (.inl none, wr τ 123 0 1)) ∧ (rd τ 123 7 ≠ 0 → ∃ w1 w2 w3 : Value, rn L xs (d + 2) 394 0 [.ref 123, v1, v2, v3] [] τ = rn L xs (d + 2) 394 13 [.ref 123, w1, w2, w3] [] (wr τ 123 0 0)) := by
  have p := must_m (L := L) (xs := xs) (τ := τ) (a := rd τ 123 7) (b := 1) d
  refine ⟨fun h => ?_, fun h => ⟨dj v1, dj v2, dj v3, ?_⟩⟩
  · rw [if_pos h, if_pos h] at p
    rw [e394_0 (d + 1), bI_ok p, show pv_c1 .ne (0 : Int32) = false from rfl, cond_false]
  · rw [if_neg h, if_neg h, if_neg (show ¬ (1 : Int32) = 0 by decide), if_neg (show ¬ (1 : Int32) = 0 by decide)] at p
    rw [e394_0 (d + 1), bI_ok p, show pv_c1 .ne (1 : Int32) = true from rfl, cond_true]
/-- nothing is there to collect -/
theorem collect_not (h1 : rd σ 117 5 ≠ 1) (h2 : rd σ 117 5 ≠ 2) (g1 : rd τ 123 122 ≠ 1) (g2 : rd τ 123 122 ≠ 2) (d : Nat) : rn L xs (d + 3) 19 0 [.ref 0] [] σ = some (.inl (some (.int (i32 (-1)))), σ) ∧ rn L xs (d + 3) 426 0 [.ref 123, jv] [] τ = some (.inl (some (.int (i32 (-1)))), wr τ 123 0 0) := by
  have p1 : rn L xs (d + 1) 257 0 [.ref 117] [] σ = some (.inl (some (.int 0)), σ) := by
    rw [e257_0, show pv_c2 .eq (rd σ 117 5) 1 = false from decide_eq_false h1, cond_false, show pv_c2 .ne (rd σ 117 5) 2 = true from decide_eq_true h2, cond_true, e257_20, e257_21]; rfl
  have p2 : rn L xs (d + 2) 256 0 [.ref 117] [] σ = some (.inl (some (.int (i32 (-1)))), σ) := by
    rw [e256_0 (d + 1), bI_ok p1, show pv_c1 .ne (0 : Int32) = false from rfl, cond_false, i32_raw]
  refine ⟨by rw [e19_0 (d + 2), bI_ok p2], ?_⟩
  rw [e426_0, show pv_c2 .eq (rd τ 123 122) 1 = false from decide_eq_false g1, cond_false, show pv_c2 .eq (rd τ 123 122) 2 = false from decide_eq_false g2, cond_false, i32_raw]
end FAULTS2
