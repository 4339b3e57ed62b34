/-! REGIONS, THE COMPONENT: what a part puts, by its kind -/
section PUTSOF
variable {L : Nat} {xs : Nat → Int32} {σ σ' : tvS}
theorem puts_own {K1 K2 p κ x n : Nat} {pe : Nat → Nat} (hp : p < 4101) (h16 : rd σ 16 p = i32 (κ : Int)) (hκ : κ = 4 ∨ κ = 16 ∨ κ = 17) (h66 : rd σ 66 p = i32 (x : Int)) (hR : ROOM K1 K2 σ) (hQ : QP n pe σ) (hn : n < 32768) (y : Int32) (d : Nat) (v3 v4 : Value) :
    ∃ σ', rn L xs (d + 2) 164 0 [.ref 74, .int (i32 (p : Int)), .int y, v3, v4] [] σ = some (.inl none, σ') ∧ ROOM K1 K2 σ' ∧ QP (n + 1) (upN pe n x) σ' ∧ frQ σ σ' := by
  obtain ⟨s1, a1, a2, a3, a4⟩ := put_c (L := L) (xs := xs) hR hQ hn x d
  have e153 : rn L xs (d + 1) 153 0 [.ref 65, .int (i32 (p : Int))] [] σ = some (.inl (some (.int (i32 (x : Int)))), σ) := by
    rw [e153_0, c_in (by omega) (by omega) (by omega), i32_ixn (by omega), h66]
  have h27 : ∀ w : Value, rn L xs (d + 2) 164 27 [.ref 74, .int (i32 (p : Int)), .int y, .int (i32 (κ : Int)), w] [] σ = some (.inl none, s1) := fun w => by
    rw [e164_27 (d + 1), bI_ok e153, bV_ok a1, e164_39 (d + 1), show (3 : Int32) = i32 3 from rfl, c2_ne (by omega) (by omega) (by omega) (by omega), c_t (by omega), e164_57]
  refine ⟨s1, ?_, a3, a2, a4⟩
  rw [e164_0 (d + 1), c_in (by omega) (by omega) (by omega), i32_ixn (by omega), h16, show (4 : Int32) = i32 4 from rfl, c2_eq (by omega) (by omega) (by omega) (by omega)]
  by_cases q4 : κ = 4
  · rw [c_t (by omega)]; exact h27 v4
  · rw [c_f (by omega), show (16 : Int32) = i32 16 from rfl, c2_eq (by omega) (by omega) (by omega) (by omega)]
    by_cases q16 : κ = 16
    · rw [c_t (by omega)]; exact h27 v4
    · rw [c_f (by omega), show (17 : Int32) = i32 17 from rfl, c2_ne (by omega) (by omega) (by omega) (by omega), c_f (by omega)]; exact h27 v4
theorem puts_39 {p κ : Nat} (hp : p < 4101) (h16 : rd σ 16 p = i32 (κ : Int)) (hκ : κ ≤ 20) (h1 : κ ≠ 4) (h2 : κ ≠ 16) (h3 : κ ≠ 17) (y : Int32) (d : Nat) (v3 v4 : Value) : rn L xs (d + 2) 164 0 [.ref 74, .int (i32 (p : Int)), .int y, v3, v4] [] σ = rn L xs (d + 2) 164 39 [.ref 74, .int (i32 (p : Int)), .int y, .int (i32 (κ : Int)), v4] [] σ := by
  rw [e164_0 (d + 1), c_in (by omega) (by omega) (by omega), i32_ixn (by omega), h16, show (4 : Int32) = i32 4 from rfl, c2_eq (by omega) (by omega) (by omega) (by omega), c_f (by omega), show (16 : Int32) = i32 16 from rfl, c2_eq (by omega) (by omega) (by omega) (by omega), c_f (by omega), show (17 : Int32) = i32 17 from rfl, c2_ne (by omega) (by omega) (by omega) (by omega), c_t (by omega)]
theorem puts_no {p κ f : Nat} (hp : p < 4101) (h16 : rd σ 16 p = i32 (κ : Int)) (hκ : κ ≤ 20) (h1 : κ ≠ 4) (h2 : κ ≠ 16) (h3 : κ ≠ 17) (hs : κ = 3 → rd σ 27 p = i32 (f : Int)) (hf : f < 21) (d : Nat) (v3 v4 : Value) : rn L xs (d + 2) 164 0 [.ref 74, .int (i32 (p : Int)), .int (i32 (f : Int)), v3, v4] [] σ = some (.inl none, σ) := by
  rw [puts_39 hp h16 hκ h1 h2 h3, e164_39 (d + 1), show (3 : Int32) = i32 3 from rfl, c2_ne (by omega) (by omega) (by omega) (by omega)]
  by_cases q : κ = 3
  · rw [c_f (by omega), c_in (by omega) (by omega) (by omega), i32_ixn (by omega), hs q, c2_ne (by omega) (by omega) (by omega) (by omega), c_f (by omega), e164_57]
  · rw [c_t (by omega), e164_57]
theorem puts_call {K1 K2 p f g kk ng n0 n : Nat} {ce pe : Nat → Nat} (hp : p < 4101) (hf : f < 21) (hg : g < f) (h16 : rd σ 16 p = i32 3) (h27 : rd σ 27 p = i32 (g : Int)) (h72 : rd σ 72 g = i32 (ng : Int)) (h44 : rd σ 44 g = i32 (kk : Int)) (hkk : kk ≤ 5) (hng : ng ≤ 64) (h69 : rd σ 69 p = i32 (n0 : Int)) (hln : n0 + (kk + 1 + ng) ≤ ln σ 70) (hl70 : ln σ 70 ≤ 32768) (h70 : ∀ i, i < kk + 1 + ng → rd σ 70 (n0 + i) = i32 (ce i : Int)) (hR : ROOM K1 K2 σ) (hQ : QP n pe σ) (hn : n + ng ≤ 32768) (d : Nat) (v3 v4 : Value) :
    ∃ (σ' : tvS) (pe' : Nat → Nat), rn L xs (d + 2) 164 0 [.ref 74, .int (i32 (p : Int)), .int (i32 (f : Int)), v3, v4] [] σ = some (.inl none, σ') ∧ ROOM K1 K2 σ' ∧ QP (n + ng) pe' σ' ∧ QPx n pe ((List.range ng).map fun i => ce (kk + 1 + i)) pe' ∧ frQ σ σ' := by
  obtain ⟨σ', pe', z1, z2, z3, z4, z5⟩ := handed_loop (L := L) (xs := xs) (K1 := K1) (K2 := K2) hp (by omega) h27 h72 h44 hkk hng h69 hln hl70 h70 d ng 0 n pe σ (.int (i32 (f : Int))) (jk (.int (i32 ((3 : Nat) : Int)))) (by omega) hR hQ frQ.refl hn
  refine ⟨σ', pe', ?_, z2, z3, ?_, z5⟩
  · rw [puts_39 (κ := 3) hp h16 (by omega) (by omega) (by omega) (by omega), e164_39 (d + 1), show (3 : Int32) = i32 ((3 : Nat) : Int) from rfl, c2_ne (by omega) (by omega) (by omega) (by omega), c_f (by omega), c_in (by omega) (by omega) (by omega), i32_ixn (by omega), h27, c2_ne (by omega) (by omega) (by omega) (by omega), c_t (by omega), e164_58 (d + 1)]
    exact z1
  · exact z4
end PUTSOF
