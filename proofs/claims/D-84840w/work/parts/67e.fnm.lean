/-! WHAT IS TOLD of a function: the model counts its fns -/
section FNM
variable {L : Nat} {xs : Nat → Int32} {τ : tvS} {D : pgD} {m f : Nat} {rg : rgD} {cd : cdD} {vd : Nat → Nat} {N : Nat} {G : tG} {rr : Nat → Nat}
theorem mKd_10 : ∀ κ, κ ≤ 20 → (mKd κ = 10 ↔ κ = 17) := by decide
theorem fnc_m (hRS : RSm D rg cd vd N G rr τ) (hF : PGF D m) (hf : f ≤ D.fc) (x2 : Int32) (d : Nat) : ∀ (j k : Nat), D.bP f + k + j = D.bP (f + 1) → ∃ v4 : Value, rn L xs (d + 1) 390 20 [.ref 123, .int (i32 (f : Int)), .int x2, .int (i32 (fnC D (D.bP f) k : Int)), .int (i32 ((D.bP f + k : Nat) : Int))] [] τ = rn L xs (d + 1) 390 59 [.ref 123, .int (i32 (f : Int)), .int x2, .int (i32 (fnC D (D.bP f) (D.bP (f + 1) - D.bP f) : Int)), v4] [] τ := by
  have h20 := hF.1.1
  have e143 := (hRS.2.1 f hf).1.2.1
  have ef : i32 (f : Int) + 1 = i32 ((f + 1 : Nat) : Int) := by rw [show (1 : Int32) = i32 1 from rfl, i32_add]; congr 1
  obtain ⟨q1, _⟩ := hF.le (D.fc + 1 - (f + 1)) (f + 1) (by omega)
  have hb := hF.1.2.2.1
  intro j
  induction j with
  | zero =>
    intro k hk
    refine ⟨.int (i32 ((D.bP f + k : Nat) : Int)), ?_⟩
    rw [e390_20, ef, c_in (by omega) (by omega) (by omega), i32_ixn (by omega), e143, c2_ge (by omega) (by omega) (by omega) (by omega), c_t (by omega), show D.bP (f + 1) - D.bP f = k by omega]
  | succ j ih =>
    intro k hk
    obtain ⟨v4, h4⟩ := ih (k + 1) (by omega)
    refine ⟨v4, ?_⟩
    rw [← h4]
    have hp : D.bP f + k < D.bP (f + 1) := by omega
    obtain ⟨b1, b2⟩ := hF.pb hf hp
    have hK := ((hF.2.2 f hf).2.2.1 (D.bP f + k) (by omega) hp).1.1
    have e151 := (hRS.2.2.1 (D.bP f + k) b1).1
    have e1 : i32 ((D.bP f + k : Nat) : Int) + 1 = i32 ((D.bP f + (k + 1) : Nat) : Int) := by rw [show (1 : Int32) = i32 1 from rfl, i32_add]; congr 1
    have em : mKd (D.K (D.bP f + k)) ≤ 13 := by
      have : ∀ κ, κ ≤ 20 → mKd κ ≤ 13 := by decide
      exact this _ hK
    conv => lhs; rw [e390_20, ef, c_in (by omega) (by omega) (by omega), i32_ixn (by omega), e143, c2_ge (by omega) (by omega) (by omega) (by omega), c_f (by omega), c_in (by omega) (by omega) (by omega), i32_ixn (by omega), e151, show (10 : Int32) = i32 10 from rfl, c2_ne (by omega) (by omega) (by omega) (by omega)]
    by_cases c : D.K (D.bP f + k) = 17
    · have e10 : mKd (D.K (D.bP f + k)) = 10 := (mKd_10 _ hK).mpr c
      have es : i32 (fnC D (D.bP f) k : Int) + 1 = i32 (fnC D (D.bP f) (k + 1) : Int) := by
        rw [show fnC D (D.bP f) (k + 1) = fnC D (D.bP f) k + 1 by show fnC D (D.bP f) k + (if D.K (D.bP f + k) = 17 then 1 else 0) = _; rw [if_pos c], show (1 : Int32) = i32 1 from rfl, i32_add]; congr 1
      rw [c_f (by omega), e390_51, es, e1]
    · have e10 : ¬ mKd (D.K (D.bP f + k)) = 10 := fun e => c ((mKd_10 _ hK).mp e)
      have es : i32 (fnC D (D.bP f) k : Int) + 0 = i32 (fnC D (D.bP f) (k + 1) : Int) := by
        rw [show fnC D (D.bP f) (k + 1) = fnC D (D.bP f) k by show fnC D (D.bP f) k + (if D.K (D.bP f + k) = 17 then 1 else 0) = _; rw [if_neg c]; rfl, show (0 : Int32) = i32 0 from rfl, i32_add]; congr 1
      rw [c_t (by omega), e390_50, e390_51, es, e1]
end FNM
