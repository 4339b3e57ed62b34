/-! READING: the main expression -/
section MAINX
variable {L : Nat} {xs : Nat → Int32} {K1 K2 m : Nat} {μ : Nat → Nat} {g fc : Nat} {sc : List Nat} {fs fs' : List (Nat × Nat × List Nat)} {F D H n A P r r0 V S : Nat} {σ τ σ' τ' σ1 τ1 σ'' τ'' : tvS} {bk bP bV bF bS : Nat → Nat}
theorem wr_ww {k i : Nat} {x y : Int32} : wr (wr σ k i x) k i y = wr σ k i y := by
  refine Prod.ext (funext fun a => funext fun b => ?_) rfl
  show rd (wr (wr σ k i x) k i y) a b = rd (wr σ k i y) a b
  by_cases e : a = k ∧ b = i
  · rw [e.1, e.2, wr_self, wr_self]
  · rw [rdne e, rdne e, rdne e]
theorem wr_wc {k i i' : Nat} {x y : Int32} (h : i ≠ i') : wr (wr σ k i x) k i' y = wr (wr σ k i' y) k i x := by
  refine Prod.ext (funext fun a => funext fun b => ?_) rfl
  show rd (wr (wr σ k i x) k i' y) a b = rd (wr (wr σ k i' y) k i x) a b
  by_cases e : a = k ∧ b = i'
  · rw [e.1, e.2, wr_self, wr_nei (by omega), wr_self]
  · rw [rdne e]
    by_cases e' : a = k ∧ b = i
    · rw [e'.1, e'.2, wr_self, wr_self]
    · rw [rdne e', rdne e', rdne e]
/-- where the fns at hand stood does not matter -/
theorem rn118_6 (d : Nat) : rn L xs (d + 1) 118 0 [.ref 62, jv] [] σ = rn L xs (d + 1) 118 0 [.ref 62, jv] [] (wr σ 62 6 (i32 (-1))) := by
  rw [e118_0 d, e118_0 d, rdne (by omega), rdne (by omega), rdne (by omega)]
  rw [show wr (wr (wr σ 62 6 (i32 (-1))) 62 4 0) 62 6 (Int32.ofInt (-1)) = wr (wr σ 62 4 0) 62 6 (Int32.ofInt (-1)) from by rw [wr_wc (i := 6) (i' := 4) (by omega), wr_ww]]
def cM0 (σ : tvS) (A fc V : Nat) : tvS := wr (wr (wl (wr (wr σ 62 3 (i32 (A + 1 : Nat))) 43 fc (i32 A)) 42 fc 0) 44 fc 0) 45 fc (i32 V)
def mM0 (τ : tvS) (A fc P V S : Nat) : tvS := wr (wr (wr (wr (wr (wr (wr (wr (wr τ 123 28 (i32 fc)) 123 40 0) 123 43 0) 139 fc (i32 A)) 140 fc 0) 143 fc (i32 P)) 144 fc (i32 V)) 141 fc (i32 V)) 202 fc (i32 (S + 1 : Nat))
theorem cM0_oth {j i : Nat} (h1 : ¬ (j = 62 ∧ i = 3)) (h2 : ¬ (43 ≤ j ∧ j ≤ 45 ∧ i = fc)) : rd (cM0 σ A fc V) j i = rd σ j i := by
  unfold cM0
  rw [rdne (by omega), rdne (by omega)]
  show rd (wr (wr σ 62 3 (i32 (A + 1 : Nat))) 43 fc (i32 A)) j i = _
  rw [rdne (by omega), rdne (by omega)]
theorem cM0_at : rd (cM0 σ A fc V) 62 3 = i32 (A + 1 : Nat) ∧ rd (cM0 σ A fc V) 43 fc = i32 A ∧ rd (cM0 σ A fc V) 44 fc = 0 ∧ rd (cM0 σ A fc V) 45 fc = i32 V := by
  unfold cM0
  refine ⟨?_, ?_, ?_, wr_self _ _ _ _⟩
  · rw [rdne (by omega), rdne (by omega)]
    show rd (wr (wr σ 62 3 (i32 (A + 1 : Nat))) 43 fc (i32 A)) 62 3 = _
    rw [rdne (by omega), wr_self]
  · rw [rdne (by omega), rdne (by omega)]
    show rd (wr (wr σ 62 3 (i32 (A + 1 : Nat))) 43 fc (i32 A)) 43 fc = _
    rw [wr_self]
  · rw [rdne (by omega), wr_self]
theorem cM0_rl {j i : Nat} : rl (cM0 σ A fc V) j i = if j = 42 ∧ i = fc then 0 else rl σ j i := by
  show rl (wl (wr (wr σ 62 3 (i32 (A + 1 : Nat))) 43 fc (i32 A)) 42 fc 0) j i = _
  rw [rl_wl]; rfl
theorem mM0_oth {j i : Nat} (h1 : ¬ (j = 123 ∧ (i = 28 ∨ i = 40 ∨ i = 43))) (h2 : ¬ ((139 ≤ j ∧ j ≤ 144 ∧ j ≠ 142 ∨ j = 202) ∧ i = fc)) : rd (mM0 τ A fc P V S) j i = rd τ j i := by
  unfold mM0
  rw [rdne (by omega), rdne (by omega), rdne (by omega), rdne (by omega), rdne (by omega), rdne (by omega), rdne (by omega), rdne (by omega)]
  exact rdne (by omega)
theorem mM0_at : (rd (mM0 τ A fc P V S) 123 28 = i32 fc ∧ rd (mM0 τ A fc P V S) 123 40 = 0 ∧ rd (mM0 τ A fc P V S) 123 43 = 0) ∧
    rd (mM0 τ A fc P V S) 139 fc = i32 A ∧ rd (mM0 τ A fc P V S) 140 fc = 0 ∧ rd (mM0 τ A fc P V S) 143 fc = i32 P ∧ rd (mM0 τ A fc P V S) 144 fc = i32 V ∧ rd (mM0 τ A fc P V S) 141 fc = i32 V ∧ rd (mM0 τ A fc P V S) 202 fc = i32 (S + 1 : Nat) := by
  unfold mM0
  refine ⟨⟨?_, ?_, ?_⟩, ?_, ?_, ?_, ?_, ?_, ?_⟩
  · rw [rdne (by omega), rdne (by omega), rdne (by omega), rdne (by omega), rdne (by omega), rdne (by omega), rdne (by omega), rdne (by omega), wr_self]
  · rw [rdne (by omega), rdne (by omega), rdne (by omega), rdne (by omega), rdne (by omega), rdne (by omega), rdne (by omega), wr_self]
  · rw [rdne (by omega), rdne (by omega), rdne (by omega), rdne (by omega), rdne (by omega), rdne (by omega), wr_self]
  · rw [rdne (by omega), rdne (by omega), rdne (by omega), rdne (by omega), rdne (by omega), wr_self]
  · rw [rdne (by omega), rdne (by omega), rdne (by omega), rdne (by omega), wr_self]
  · rw [rdne (by omega), rdne (by omega), rdne (by omega), wr_self]
  · rw [rdne (by omega), rdne (by omega), wr_self]
  · rw [rdne (by omega), wr_self]
  · rw [wr_self]
/-- where main's body begins -/
theorem BST.main (h : BST K1 K2 m μ fc F P V S A σ τ) (hA : A + 1 + 1 ≤ m) :
    CORE K1 K2 m μ fc fc [] [] F (A + 1 + 1) P 0 (wr (wr (wr (cM0 σ A fc V) 62 3 (i32 (A + 1 + 1 : Nat))) 62 5 (i32 (-1))) 62 6 (i32 (-1))) (wr (wr (mM0 τ A fc P V S) 123 17 (i32 (A + 1 : Nat))) 123 17 (i32 (A + 1 + 1 : Nat))) ∧ SLO (wr (wr (mM0 τ A fc P V S) 123 17 (i32 (A + 1 : Nat))) 123 17 (i32 (A + 1 + 1 : Nat))) := by
  obtain ⟨hc, ⟨s1, s2, s3, s4, s5, s6⟩, ⟨k2, k3, k4, k5⟩⟩ := h
  obtain ⟨c1, c2, c3, c4, ⟨c5, c5'⟩, c6⟩ := hc.lv
  obtain ⟨V', S', q0, a5, a7, a8, hm, a6, ⟨b1, b2, b3, b4, b5, ⟨b6, b6'⟩, b7⟩, a14⟩ := hc.scS
  have hw := c1.2.2.2.2.2.2.1 A s3
  rw [c2] at hw
  obtain ⟨x1, x2, x3, x4⟩ := cM0_at (σ := σ) (A := A) (fc := fc) (V := V)
  obtain ⟨⟨y1, y2, y3⟩, y4, y5, y6, y7, y8, y9⟩ := mM0_at (τ := τ) (A := A) (fc := fc) (P := P) (V := V) (S := S)
  have hoM : ∀ j i, ¬ (j = 123 ∧ i = 17) → rd (wr (wr (mM0 τ A fc P V S) 123 17 (i32 (A + 1 : Nat))) 123 17 (i32 (A + 1 + 1 : Nat))) j i = rd (mM0 τ A fc P V S) j i := fun j i h1 => by rw [rdne h1, rdne h1]
  have hmu : mu (wr (wr (mM0 τ A fc P V S) 123 17 (i32 (A + 1 : Nat))) 123 17 (i32 (A + 1 + 1 : Nat))) = mu (wr (wr (wr τ 123 28 (i32 fc)) 123 40 0) 123 43 0) := by
    funext j; unfold mu; rw [hoM _ _ (by omega), mM0_oth (by omega) (by omega)]; rfl
  refine ⟨?_, ?_⟩
  · refine hc.gen (by omega) (by omega) (fun j i h1 h2 h3 h4 h5 => ?_) (fun j i h1 h2 h3 h4 => ?_) (fun j i hj => ?_) rfl ?_ ?_ (fun p f hp h3 hf h27 => ?_)
    · by_cases e6 : j = 62 ∧ i = 6
      · rw [e6.1, e6.2, wr_self, wr_self]
      · rw [rdne e6, rdne e6]
        by_cases e5 : j = 62 ∧ i = 5
        · rw [e5.1, e5.2, wr_self, wr_self]
        · have e3 : ¬ (j = 62 ∧ i = 3) := fun q => by rw [q.1, q.2] at h5; cases h5
          rw [rdne e5, rdne e5, rdne e3]
          exact cM0_oth e3 (by omega)
    · have e17 : ¬ (j = 123 ∧ i = 17) := fun q => by rw [q.1, q.2] at h4; cases h4
      rw [hoM _ _ e17]
      by_cases e40 : j = 123 ∧ i = 40
      · rw [e40.1, e40.2, y2, wr_nei (by omega), wr_self]
      · by_cases e43 : j = 123 ∧ i = 43
        · rw [e43.1, e43.2, y3, wr_self]
        · rw [rdne e43, rdne e40, rdne (by omega)]
          exact mM0_oth (by omega) (by omega)
    · show rl (cM0 σ A fc V) j i = rl σ j i
      rw [cM0_rl, if_neg (by omega)]
    · refine ⟨?_, (hoM _ _ (by omega)).trans y1, b3, ?_, ?_, ⟨b6, fun f hf => ?_⟩, fun f hf => ?_⟩
      · rw [rdne (by omega), rdne (by omega), rdne (by omega), cM0_oth (by omega) (by omega)]
        rw [rdne (by omega), rdne (by omega)] at b1
        exact b1
      · rw [rdne (by omega), rdne (by omega), rdne (by omega), cM0_oth (by omega) (by omega)]
        rw [rdne (by omega), rdne (by omega)] at b4
        exact b4
      · rw [hoM _ _ (by omega), mM0_oth (by omega) (by omega)]
        rw [rdne (by omega), rdne (by omega), rdne (by omega)] at b5
        exact b5
      · obtain ⟨kk, d1, d2, d3, d4⟩ := b6' f hf
        refine ⟨kk, d1, by rw [hmu]; exact d2, ?_, ?_⟩
        · show rl (cM0 σ A fc V) 12 kk = rl (cM0 σ A fc V) 42 f
          rw [cM0_rl, cM0_rl, if_neg (by omega), if_neg (by omega)]
          exact d3
        · rw [hoM _ _ (by omega), hoM _ _ (by omega), mM0_oth (by omega) (by omega), mM0_oth (by omega) (by omega)]
          exact d4
      · have := b7 f hf
        rw [hoM _ _ (by omega), mM0_oth (by omega) (by omega), rdne (by omega), rdne (by omega), rdne (by omega), cM0_oth (by omega) (by omega)]
        exact this
    · rw [rdne (by omega), rdne (by omega), rdne (by omega), rdne (by omega), rdne (by omega), cM0_oth (by omega) (by omega)]; exact Nat.le_refl _
    · rw [b4, i32_ixn (by omega)] at hf
      exact ⟨by rw [rdne (by omega), rdne (by omega), rdne (by omega), cM0_oth (by omega) (by omega), rdne (by omega), rdne (by omega)], by rw [rdne (by omega), rdne (by omega), rdne (by omega), cM0_oth (by omega) (by omega), rdne (by omega), rdne (by omega)]⟩
  · refine SLO.congr (τ := mM0 τ A fc P V S) ?_ (fun i hi => hoM _ _ (by omega)) (fun j hj i => hoM _ _ (by omega))
    have hLO : LOf (mM0 τ A fc P V S) = S + 1 := by unfold LOf; rw [y1, i32_ixn (by omega), y9, i32_ixn (by omega)]
    have hP0 : P0f (mM0 τ A fc P V S) = P := by unfold P0f; rw [y1, i32_ixn (by omega), y6, i32_ixn (by omega)]
    have h46 : rd (mM0 τ A fc P V S) 123 46 = i32 P := by
      rw [mM0_oth (by omega) (by omega)]
      rw [rdne (by omega), rdne (by omega), rdne (by omega)] at c5'
      exact c5'
    have h42 : rd (mM0 τ A fc P V S) 123 42 = i32 S := (mM0_oth (by omega) (by omega)).trans k4
    have hV0 : V0f (mM0 τ A fc P V S) = V := by unfold V0f; rw [y1, i32_ixn (by omega), y7, i32_ixn (by omega)]
    have HV36 : rd τ 123 36 = i32 V := by
      rw [rdne (by omega), rdne (by omega), rdne (by omega)] at a6
      rw [rdne (by omega), rdne (by omega)] at a5
      exact a6.trans (a5.symm.trans k2)
    have h36 : rd (mM0 τ A fc P V S) 123 36 = i32 V := (mM0_oth (by omega) (by omega)).trans HV36
    unfold SLO VLO
    rw [hLO, hP0, hV0, h46, h42, h36, y3, i32_ixn (by omega), i32_ixn (by omega), i32_ixn (by omega)]
    exact ⟨Or.inl rfl, Nat.le_refl _, fun s h1 h2 => by omega, fun p h1 h2 => by omega, Nat.le_refl _, (fun s h1 h2 => by omega), rfl, Nat.zero_le _⟩
end MAINX
