/-! BOTH IN ONE MEMORY: go and begin, with what may go wrong -/
section FAULTS
variable {L : Nat} {xs : Nat → Int32} {σ τ : tvS}
theorem hnd6a : pv_hnd (miP 6).2.2.2 4 1017 = some 12 := by decide +kernel
theorem hnd6b : pv_hnd (miP 6).2.2.2 4 1018 = some 15 := by decide +kernel
theorem hnd5 : pv_hnd (miP 5).2.2.2 1 1018 = some 7 := by decide +kernel
theorem must_m {a b : Int32} (d : Nat) : rn L xs (d + 1) 370 0 [.ref 123, .int a, .int b] [] τ = some (.inl (some (.int (if a = 0 then 0 else if b = 0 then 0 else 1))), wr τ 123 0 (if a = 0 then 1 else if b = 0 then 2 else 0)) := by
  by_cases c1 : a = 0
  · rw [if_pos c1, if_pos c1, e370_0, show pv_c1 .ne a = false from decide_eq_false (not_not_intro c1), cond_false, e370_18, show pv_c1 .ne (1 : Int32) = true from rfl, cond_true, e370_32, e370_33]; rfl
  · rw [if_neg c1, if_neg c1, e370_0, show pv_c1 .ne a = true from decide_eq_true c1, cond_true, e370_9]
    by_cases c2 : b = 0
    · rw [if_pos c2, if_pos c2, show pv_c1 .ne b = false from decide_eq_false (not_not_intro c2), cond_false, e370_18, show pv_c1 .ne (2 : Int32) = true from rfl, cond_true, e370_32, e370_33]; rfl
    · rw [if_neg c2, if_neg c2, show pv_c1 .ne b = true from decide_eq_true c2, cond_true, e370_17, e370_18, show pv_c1 .ne (0 : Int32) = false from rfl, cond_false, e370_33]; rfl
theorem gohead_m (x : Int32) (w2 w3 : Value) (d : Nat) : ∃ w2' w3' : Value, rn L xs (d + 2) 398 0 [.ref 123, .int x, w2, w3] [] τ = (if ¬ (1 ≤ x.toInt ∧ x.toInt ≤ 30000) then some (.inl (some (.int 0)), wr τ 123 0 1) else if rd τ 123 122 ≠ 1 then some (.inl (some (.int 0)), wr τ 123 0 2) else rn L xs (d + 2) 398 39 [.ref 123, .int x, w2', w3'] [] (wr τ 123 0 0)) := by
  refine ⟨dj w2, dj w3, ?_⟩
  have fin : ∀ a b : Int32, rn L xs (d + 2) 398 31 [.ref 123, .int x, w2, w3] [.int b, .int a, .ref 123] τ = cond (pv_c1 .ne (if a = 0 then (0 : Int32) else if b = 0 then 0 else 1)) (rn L xs (d + 2) 398 39 [.ref 123, .int x, dj w2, dj w3] [] (wr τ 123 0 (if a = 0 then 1 else if b = 0 then 2 else 0))) (some (.inl (some (.int 0)), wr τ 123 0 (if a = 0 then 1 else if b = 0 then 2 else 0))) := fun a b => by
    rw [e398_31 (d + 1), bI_ok (must_m d)]
  have st : ∀ a : Int32, rn L xs (d + 2) 398 18 [.ref 123, .int x, w2, w3] [.int a, .ref 123] τ = rn L xs (d + 2) 398 31 [.ref 123, .int x, w2, w3] [.int (if rd τ 123 122 = 1 then 1 else 0), .int a, .ref 123] τ := fun a => by
    by_cases c : rd τ 123 122 = 1
    · rw [if_pos c, e398_18, show pv_c2 .ne (rd τ 123 122) 1 = false from decide_eq_false (not_not_intro c), cond_false]
    · rw [if_neg c, e398_18, show pv_c2 .ne (rd τ 123 122) 1 = true from decide_eq_true c, cond_true, e398_30]
  have hd : rn L xs (d + 2) 398 0 [.ref 123, .int x, w2, w3] [] τ = rn L xs (d + 2) 398 18 [.ref 123, .int x, w2, w3] [.int (if 1 ≤ x.toInt ∧ x.toInt ≤ 30000 then 1 else 0), .ref 123] τ := by
    rw [e398_0, show (1 : Int32) = i32 1 from rfl, c2_ltx, i32_ti (by omega) (by omega)]
    by_cases c1 : x.toInt < 1
    · rw [c_t c1, if_neg (by omega), e398_17]
    · rw [c_f c1, show (30000 : Int32) = i32 30000 from rfl, c2_gtx, i32_ti (by omega) (by omega)]
      by_cases c2 : 30000 < x.toInt
      · rw [c_t c2, if_neg (by omega), e398_17]
      · rw [c_f c2, if_pos (by omega)]
  rw [hd, st, fin]
  by_cases c1 : 1 ≤ x.toInt ∧ x.toInt ≤ 30000
  · rw [if_neg (not_not_intro c1), if_pos c1, if_neg (show ¬ (1 : Int32) = 0 by decide), if_neg (show ¬ (1 : Int32) = 0 by decide)]
    by_cases c2 : rd τ 123 122 = 1
    · rw [if_pos c2, if_neg (not_not_intro c2), if_neg (show ¬ (1 : Int32) = 0 by decide), if_neg (show ¬ (1 : Int32) = 0 by decide), show pv_c1 .ne (1 : Int32) = true from rfl, cond_true]
    · rw [if_neg c2, if_pos c2, if_pos rfl, if_pos rfl, show pv_c1 .ne (0 : Int32) = false from rfl, cond_false]
  · rw [if_pos c1, if_neg c1, if_pos rfl, if_pos rfl, show pv_c1 .ne (0 : Int32) = false from rfl, cond_false]
/-- go goes wrong, the component -/
theorem gofault_c (hx : xnOK σ = true) (x : Int32) (v3 : Value) (d : Nat) :
    (¬ (1 ≤ x.toInt ∧ x.toInt ≤ 30000) → rn L xs (d + 4) 6 0 [.ref 0, .int x, .ref 238, v3] [] σ = some (.inl (some (.int 1)), xn σ)) ∧ (1 ≤ x.toInt ∧ x.toInt ≤ 30000 → rd σ 117 5 ≠ 1 → rn L xs (d + 4) 6 0 [.ref 0, .int x, .ref 238, v3] [] σ = some (.inl (some (.int 2)), xn σ)) ∧ (1 ≤ x.toInt ∧ x.toInt ≤ 30000 → rd σ 117 5 = 1 → ∀ (y : Int32) (σ1 : tvS), rn L xs (d + 2) 260 0 [.ref 117, .int x, jv, jv] [] σ = some (.inl (some (.int y)), σ1) → rn L xs (d + 4) 6 0 [.ref 0, .int x, .ref 238, v3] [] σ = some (.inl (some (.int 0)), wl σ1 238 0 y.toInt64)) := by
  have hd : ∀ a : Int32, a = (if 1 ≤ x.toInt ∧ x.toInt ≤ 30000 then 1 else 0) → rn L xs (d + 3) 31 0 [.ref 0, .int x] [] σ = rn L xs (d + 3) 31 17 [.ref 0, .int x] [.int a] σ := fun a ha => by
    rw [e31_0, show (1 : Int32) = i32 1 from rfl, c2_ltx, i32_ti (by omega) (by omega)]
    by_cases c1 : x.toInt < 1
    · rw [c_t c1, ha, if_neg (by omega), e31_16]
    · rw [c_f c1, show (30000 : Int32) = i32 30000 from rfl, c2_gtx, i32_ti (by omega) (by omega)]
      by_cases c2 : 30000 < x.toInt
      · rw [c_t c2, ha, if_neg (by omega), e31_16]
      · rw [c_f c2, ha, if_pos (by omega)]; rfl
  refine ⟨fun c => ?_, fun c c5 => ?_, fun c c5 y σ1 hg => ?_⟩
  · have p1 : rn L xs (d + 2) 22 0 [.int 0] [] σ = some (.inr (1017, (rm σ).1), xn σ) := by rw [e22_0, show pv_c1 .ne (0 : Int32) = false from rfl, cond_false, hx, cond_true]
    have p2 : rn L xs (d + 3) 31 0 [.ref 0, .int x] [] σ = some (.inr (1017, (rm σ).1), xn σ) := by rw [hd 0 (by rw [if_neg c]), e31_17 (d + 2), bV_ex p1]; rfl
    rw [e6_0 (d + 3), bI_ex p2, hnd6a]
    exact e6_12 _ _ _ _ _ _ _
  · have p1 : rn L xs (d + 2) 22 0 [.int 1] [] σ = some (.inl none, σ) := by rw [e22_0, show pv_c1 .ne (1 : Int32) = true from rfl, cond_true, e22_12]
    have p0 : rn L xs (d + 2) 254 0 [.ref 117] [] σ = some (.inl (some (.int (rd σ 117 5))), σ) := by rw [e254_0]
    have p3 : rn L xs (d + 2) 24 0 [.int 0] [] σ = some (.inr (1018, (rm σ).1), xn σ) := by rw [e24_0, show pv_c1 .ne (0 : Int32) = false from rfl, cond_false, hx, cond_true]
    have p2 : rn L xs (d + 3) 31 0 [.ref 0, .int x] [] σ = some (.inr (1018, (rm σ).1), xn σ) := by
      rw [hd 1 (by rw [if_pos c]), e31_17 (d + 2), bV_ok p1, bI_ok p0, show pv_c2 .ne (rd σ 117 5) 1 = true from decide_eq_true c5, cond_true, e31_35, e31_36 (d + 2), bV_ex p3]; rfl
    rw [e6_0 (d + 3), bI_ex p2, hnd6b]
    exact e6_15 _ _ _ _ _ _ _
  · have p1 : rn L xs (d + 2) 22 0 [.int 1] [] σ = some (.inl none, σ) := by rw [e22_0, show pv_c1 .ne (1 : Int32) = true from rfl, cond_true, e22_12]
    have p0 : rn L xs (d + 2) 254 0 [.ref 117] [] σ = some (.inl (some (.int (rd σ 117 5))), σ) := by rw [e254_0]
    have p3 : rn L xs (d + 2) 24 0 [.int 1] [] σ = some (.inl none, σ) := by rw [e24_0, show pv_c1 .ne (1 : Int32) = true from rfl, cond_true, e24_12]
    have p4 : rn L xs (d + 3) 31 0 [.ref 0, .int x] [] σ = some (.inl (some (.int y)), σ1) := by
      rw [hd 1 (by rw [if_pos c]), e31_17 (d + 2), bV_ok p1, bI_ok p0, show pv_c2 .ne (rd σ 117 5) 1 = false from decide_eq_false (not_not_intro c5), cond_false, e31_36 (d + 2), bV_ok p3, bI_ok hg]
    rw [e6_0 (d + 3), bI_ok p4, show ix (0 : Int32) = 0 from rfl, e6_18]
end FAULTS
