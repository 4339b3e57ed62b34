/-! IS IT A FUNCTION: both ask alike -/
section ISFUN
variable {L : Nat} {xs : Nat → Int32} {σ τ : tvS} {fc : Nat}
theorem isfun_m (h27 : rd τ 123 27 = i32 (fc : Int)) (hfc : fc ≤ 20) (x : Int32) (d : Nat) : rn L xs (d + 2) 383 0 [.ref 123, .int x] [] τ = some (.inl (some (.int (if rd τ 123 7 = 0 then 0 else if 0 ≤ x.toInt ∧ x.toInt ≤ fc then 1 else 0))), wr τ 123 0 (if rd τ 123 7 = 0 then 1 else if 0 ≤ x.toInt ∧ x.toInt ≤ fc then 0 else 2)) := by
  have fin : ∀ b : Int32, rn L xs (d + 2) 383 22 [.ref 123, .int x] [.int b, .int (rd τ 123 7), .ref 123] τ = some (.inl (some (.int (if rd τ 123 7 = 0 then 0 else if b = 0 then 0 else 1))), wr τ 123 0 (if rd τ 123 7 = 0 then 1 else if b = 0 then 2 else 0)) := fun b => by
    rw [e383_22 (d + 1), bI_ok (must_m d)]
    by_cases c1 : rd τ 123 7 = 0
    · rw [if_pos c1, if_pos c1]; rfl
    · rw [if_neg c1, if_neg c1]
      by_cases c2 : b = 0
      · rw [if_pos c2, if_pos c2]; rfl
      · rw [if_neg c2, if_neg c2]; rfl
  have hd : rn L xs (d + 2) 383 0 [.ref 123, .int x] [] τ = rn L xs (d + 2) 383 22 [.ref 123, .int x] [.int (if 0 ≤ x.toInt ∧ x.toInt ≤ fc then 1 else 0), .int (rd τ 123 7), .ref 123] τ := by
    rw [e383_0, c1_ltx]
    by_cases c1 : x.toInt < 0
    · rw [c_t c1, if_neg (by omega), e383_21]
    · rw [c_f c1, h27, c2_gtx, i32_ti (by omega) (by omega)]
      by_cases c2 : (fc : Int) < x.toInt
      · rw [c_t c2, if_neg (by omega), e383_21]
      · rw [c_f c2, if_pos (by omega)]
  rw [hd, fin]
  by_cases c : 0 ≤ x.toInt ∧ x.toInt ≤ fc
  · rw [if_pos c, if_pos c, if_neg (show ¬ (1 : Int32) = 0 by decide), if_neg (show ¬ (1 : Int32) = 0 by decide)]
  · rw [if_neg c, if_neg c, if_pos rfl, if_pos rfl]
theorem isfun_c (h38 : rd σ 15 38 = i32 (fc : Int)) (hfc : fc ≤ 20) (x : Int32) (d : Nat) : (xnOK σ = true → rd σ 0 14 = 0 → rn L xs (d + 2) 26 0 [.ref 0, .int x] [] σ = some (.inr (1018, (rm σ).1), xn σ)) ∧ (rd σ 0 14 ≠ 0 → 0 ≤ x.toInt ∧ x.toInt ≤ fc → rn L xs (d + 2) 26 0 [.ref 0, .int x] [] σ = some (.inl none, σ)) ∧ (rd σ 0 14 ≠ 0 → ¬ (0 ≤ x.toInt ∧ x.toInt ≤ fc) → rn L xs (d + 2) 26 0 [.ref 0, .int x] [] σ = bV (rn L xs (d + 1) 27 0 [.int 0] [] σ) (fun s1 => some (.inl none, s1)) X0) := by
  have p1 : rd σ 0 14 ≠ 0 → rn L xs (d + 1) 24 0 [.int (rd σ 0 14)] [] σ = some (.inl none, σ) := fun h0 => by rw [e24_0, show pv_c1 .ne (rd σ 0 14) = true from decide_eq_true h0, cond_true, e24_12]
  refine ⟨fun hx h0 => ?_, fun h0 c => ?_, fun h0 c => ?_⟩
  · have p : rn L xs (d + 1) 24 0 [.int (rd σ 0 14)] [] σ = some (.inr (1018, (rm σ).1), xn σ) := by rw [h0, e24_0, show pv_c1 .ne (0 : Int32) = false from rfl, cond_false, hx, cond_true]
    rw [e26_0 (d + 1), bV_ex p]; rfl
  · have p3 : rn L xs (d + 1) 27 0 [.int 1] [] σ = some (.inl none, σ) := by rw [e27_0, show pv_c1 .ne (1 : Int32) = true from rfl, cond_true, e27_12]
    rw [e26_0 (d + 1), bV_ok (p1 h0), c1_ltx, c_f (by omega), h38, c2_gtx, i32_ti (by omega) (by omega), c_f (by omega), e26_27 (d + 1), bV_ok p3]
  · rw [e26_0 (d + 1), bV_ok (p1 h0), c1_ltx]
    by_cases c1 : x.toInt < 0
    · rw [c_t c1, e26_26, e26_27 (d + 1)]
    · rw [c_f c1, h38, c2_gtx, i32_ti (by omega) (by omega), c_t (by omega), e26_26, e26_27 (d + 1)]
end ISFUN
