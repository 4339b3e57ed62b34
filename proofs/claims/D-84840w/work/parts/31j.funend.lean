/-! READING: a function from its parameters on -/
section FUNEND
variable {L : Nat} {xs : Nat → Int32} {K1 K2 m : Nat} {μ : Nat → Nat} {g fc : Nat} {sc : List Nat} {fs fs' : List (Nat × Nat × List Nat)} {F D H n A P r r0 V S : Nat} {σ τ σ' τ' σ1 τ1 σ'' τ'' : tvS}
theorem FR2.sm {i i' i'' : Nat} {x x' y : Int32} : FR2 g P V S σ τ (wr (wr σ 62 i x) 62 i' x') (wr τ 123 i'' y) := ⟨fun j i _ _ _ => by rw [rdne (by omega), rdne (by omega)], fun j i _ _ => rdne (by omega), fun p _ => ⟨fun j hj => by rw [rdne (by omega), rdne (by omega)], rdne (by omega)⟩, fun s _ j hj => rdne (by omega), fun v _ => ⟨by rw [rdne (by omega), rdne (by omega)], by rw [rdne (by omega), rdne (by omega)], by rw [rdne (by omega), rdne (by omega)]⟩, fun j i _ _ => rfl⟩
/-- from a function's end to the state between functions -/
theorem CORE.toB {A' : Nat} (h : CORE K1 K2 m μ g (g + 1) sc [] F A P 0 σ τ) (hP : P ≤ 4101) (hA : A ≤ A') : CORE K1 K2 m μ (g + 1) (g + 1) [] [] F A' P 0 (wr (wr (wr (wr σ 62 3 (i32 A')) 62 7 (i32 (g + 1 : Nat))) 62 5 (i32 (-1))) 62 6 (i32 (-1))) (wr (wr (wr (wr τ 123 17 (i32 A')) 123 28 (i32 (g + 1 : Nat))) 123 40 0) 123 43 0) := by
  have h6 : rd σ 62 6 = i32 (-1) := by
    obtain ⟨V', S', C, q, cp, _, _, _, _, _, _, _, _, _, _, _, _, hcap⟩ := h
    exact hcap.2.1
  obtain ⟨V', S', q0, a5, a7, a8, hm, a6, ⟨b1, b2, b3, b4, b5, ⟨b6, b6'⟩, b7⟩, a14⟩ := h.scS
  refine (h.bare hP).gen hA hP (fun j i h1 h2 h3 h4 h5 => ?_) (fun j i h1 h2 h3 h4 => ?_) (fun j i hj => rfl) rfl ?_ ?_ (fun p f hp h3 hf h27 => ?_)
  · by_cases e6 : j = 62 ∧ i = 6
    · rw [e6.1, e6.2, wr_self, wr_nei (by omega), h6]
    · rw [rdne e6]
      by_cases e5 : j = 62 ∧ i = 5
      · rw [e5.1, e5.2, wr_self, wr_self]
      · rw [rdne e5, rdne e5, rdne h3, rdne (fun q => by rw [q.1, q.2] at h5; cases h5)]
  · by_cases e43 : j = 123 ∧ i = 43
    · rw [e43.1, e43.2, wr_self, wr_self]
    · rw [rdne e43, rdne e43]
      by_cases e40 : j = 123 ∧ i = 40
      · rw [e40.1, e40.2, wr_self, wr_self]
      · rw [rdne e40, rdne e40, rdne (by omega), rdne (fun q => by rw [q.1, q.2] at h4; cases h4)]
  · refine ⟨?_, ?_, b6, ?_, ?_, ⟨b6, b6'⟩, b7⟩
    · rw [wr_nei (by omega), wr_nei (by omega), wr_self]
    · rw [wr_nei (by omega), wr_nei (by omega), wr_self]
    · rw [wr_nek (by omega), wr_nek (by omega), wr_nek (by omega), wr_nek (by omega)]; exact b4
    · rw [wr_nei (by omega), wr_nei (by omega), wr_nei (by omega), wr_nei (by omega)]; exact b5
  · rw [wr_nek (by omega), wr_nek (by omega), wr_nek (by omega), wr_nek (by omega), wr_nek (by omega)]; exact Nat.le_refl _
  · exact ⟨by rw [rdne (by omega), rdne (by omega), rdne (by omega), rdne (by omega), rdne (by omega)], by rw [rdne (by omega), rdne (by omega), rdne (by omega), rdne (by omega), rdne (by omega)]⟩
/-- the sign that must come, both -/
theorem must_both {d dm k : Nat} {σ τ : tvS} (hLV : LV m σ τ) (hμ : mu τ = μ) (hA : A ≤ m) (h1 : rd σ 62 3 = i32 A) (h2 : rd τ 123 17 = i32 A) (h5 : rd τ 123 5 = 0) (hx : xnOK σ = true) (hk1 : 20 ≤ k) (hk2 : k ≤ 35) :
    (μ A = k → A + 1 ≤ m ∧ rn L xs (d + 4) 112 0 [.ref 62, .int (i32 (sgC k))] [] σ = some (.inl none, wr σ 62 3 (i32 (A + 1 : Nat))) ∧ rn L xs (dm + 2) 303 0 [.ref 123, .int (i32 k)] [] τ = some (.inl (some (.int 1)), wr τ 123 17 (i32 (A + 1 : Nat)))) ∧
    (μ A ≠ k → rn L xs (d + 4) 112 0 [.ref 62, .int (i32 (sgC k))] [] σ = some (.inr (1016, (rm σ).1), cFlt σ 2 (rd σ 13 A)) ∧ rn L xs (dm + 2) 303 0 [.ref 123, .int (i32 k)] [] τ = some (.inl (some (.int 0)), mFlt τ 2 (rd σ 13 A)) ∧ rd (mFlt τ 2 (rd σ 13 A)) 123 5 = 2 ∧ rd (mFlt τ 2 (rd σ 13 A)) 123 6 = rd σ 13 A) := by
  have e1 := rmust_ok (L := L) (xs := xs) hLV hA h1 hk1 hk2 hx d
  have e2 := mtake_ok (L := L) (xs := xs) hLV hA h2 (show k ≤ 36 by omega) h5 dm
  rw [hμ] at e1 e2
  have hp := (hLV.2.1 A hA).2.1
  refine ⟨fun q => ?_, fun q => ?_⟩
  · rw [if_pos q] at e1 e2
    refine ⟨?_, e1, e2⟩
    apply Classical.byContradiction
    intro w
    have h36 := hLV.2.2.1
    rw [hμ, show m = A by omega] at h36
    omega
  · rw [if_neg q] at e1 e2
    rw [← hp] at e2
    exact ⟨e1, e2, (wr_nei (by omega)).trans (wr_self _ _ _ _), wr_self _ _ _ _⟩
end FUNEND
