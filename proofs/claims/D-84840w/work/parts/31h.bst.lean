/-! READING: between functions -/
section BST1
variable {L : Nat} {xs : Nat → Int32} {K1 K2 m : Nat} {μ : Nat → Nat} {g fc : Nat} {sc : List Nat} {fs fs' : List (Nat × Nat × List Nat)} {F D H n A P r r0 V S : Nat} {σ τ σ' τ' σ1 τ1 σ'' τ'' : tvS}
theorem cHd_oth {j i : Nat} (h1 : ¬ (j = 62 ∧ (i = 3 ∨ i = 5 ∨ i = 6))) (h2 : ¬ (j = 15 ∧ i = 38)) (h3 : ¬ ((j = 43 ∨ j = 45) ∧ i = fc)) : rd (cHd σ A fc V) j i = rd σ j i := by
  unfold cHd cH0
  rw [rdne (by omega), rdne (by omega), rdne (by omega), rdne (by omega), rdne (by omega), rdne (by omega), rdne (by omega)]
  show rd (wr σ 62 3 (i32 (A + 1 : Nat))) j i = _
  exact rdne (by omega)
theorem cHd_at : rd (cHd σ A fc V) 62 3 = i32 (A + 1 + 1 + 1 : Nat) ∧ rd (cHd σ A fc V) 62 5 = i32 (-1) ∧ rd (cHd σ A fc V) 62 6 = i32 (-1) ∧ rd (cHd σ A fc V) 15 38 = i32 (fc + 1 : Nat) ∧ rd (cHd σ A fc V) 43 fc = i32 (A + 1 : Nat) ∧ rd (cHd σ A fc V) 45 fc = i32 V := by
  unfold cHd cH0
  refine ⟨?_, ?_, ?_, ?_, ?_, ?_⟩
  · rw [wr_nek (by omega), wr_nei (by omega), wr_nei (by omega), wr_self]
  · rw [wr_nek (by omega), wr_nei (by omega), wr_self]
  · rw [wr_nek (by omega), wr_self]
  · rw [wr_nek (by omega), wr_nek (by omega), wr_nek (by omega), wr_nek (by omega), wr_nek (by omega), wr_self]
  · rw [wr_nek (by omega), wr_nek (by omega), wr_nek (by omega), wr_nek (by omega), wr_nek (by omega), wr_nek (by omega), wr_self]
  · rw [wr_self]
theorem cHd_rl {j i : Nat} : rl (cHd σ A fc V) j i = if j = 42 ∧ i = fc then rl σ 12 (A + 1) else rl σ j i := by
  show rl (wl (wr σ 62 3 (i32 (A + 1 : Nat))) 42 fc (rl σ 12 (A + 1))) j i = _
  rw [rl_wl]; rfl
theorem mHd_oth {j i : Nat} (h1 : ¬ (j = 123 ∧ (i = 17 ∨ i = 27 ∨ i = 28 ∨ i = 40 ∨ i = 43))) (h2 : ¬ ((138 ≤ j ∧ j ≤ 144 ∧ j ≠ 142 ∨ j = 202) ∧ i = fc)) : rd (mHd τ A fc P V S) j i = rd τ j i := by
  unfold mHd mH0 mH1
  rw [rdne (by omega), rdne (by omega), rdne (by omega), rdne (by omega), rdne (by omega), rdne (by omega), rdne (by omega), rdne (by omega), rdne (by omega), rdne (by omega), rdne (by omega), rdne (by omega), rdne (by omega)]
  exact rdne (by omega)
theorem mHd_at : (rd (mHd τ A fc P V S) 123 17 = i32 (A + 1 + 1 + 1 : Nat) ∧ rd (mHd τ A fc P V S) 123 27 = i32 (fc + 1 : Nat) ∧ rd (mHd τ A fc P V S) 123 28 = i32 fc ∧ rd (mHd τ A fc P V S) 123 40 = 0 ∧ rd (mHd τ A fc P V S) 123 43 = 0) ∧
    rd (mHd τ A fc P V S) 138 fc = rd τ 129 (A + 1) ∧ rd (mHd τ A fc P V S) 139 fc = i32 (A + 1 : Nat) ∧ rd (mHd τ A fc P V S) 140 fc = 0 ∧ rd (mHd τ A fc P V S) 143 fc = i32 P ∧ rd (mHd τ A fc P V S) 144 fc = i32 V ∧ rd (mHd τ A fc P V S) 141 fc = i32 V ∧ rd (mHd τ A fc P V S) 202 fc = i32 (S + 1 : Nat) := by
  unfold mHd mH0 mH1
  refine ⟨⟨?_, ?_, ?_, ?_, ?_⟩, ?_, ?_, ?_, ?_, ?_, ?_, ?_⟩
  · rw [wr_self]
  · rw [rdne (by omega), rdne (by omega), wr_self]
  · rw [rdne (by omega), rdne (by omega), rdne (by omega), rdne (by omega), rdne (by omega), rdne (by omega), rdne (by omega), rdne (by omega), rdne (by omega), rdne (by omega), wr_self]
  · rw [rdne (by omega), rdne (by omega), rdne (by omega), rdne (by omega), rdne (by omega), rdne (by omega), rdne (by omega), rdne (by omega), rdne (by omega), rdne (by omega), rdne (by omega), rdne (by omega), wr_self]
  · rw [rdne (by omega), rdne (by omega), rdne (by omega), rdne (by omega), rdne (by omega), rdne (by omega), rdne (by omega), rdne (by omega), rdne (by omega), rdne (by omega), rdne (by omega), wr_self]
  · rw [rdne (by omega), rdne (by omega), rdne (by omega), rdne (by omega), rdne (by omega), rdne (by omega), rdne (by omega), rdne (by omega), rdne (by omega), wr_self]
  · rw [rdne (by omega), rdne (by omega), rdne (by omega), rdne (by omega), rdne (by omega), rdne (by omega), rdne (by omega), rdne (by omega), wr_self]
  · rw [rdne (by omega), rdne (by omega), rdne (by omega), rdne (by omega), rdne (by omega), rdne (by omega), rdne (by omega), wr_self]
  · rw [rdne (by omega), rdne (by omega), rdne (by omega), rdne (by omega), rdne (by omega), rdne (by omega), wr_self]
  · rw [rdne (by omega), rdne (by omega), rdne (by omega), rdne (by omega), rdne (by omega), wr_self]
  · rw [rdne (by omega), rdne (by omega), rdne (by omega), rdne (by omega), wr_self]
  · rw [rdne (by omega), rdne (by omega), rdne (by omega), wr_self]
/-- the state between functions -/
def BST (K1 K2 m : Nat) (μ : Nat → Nat) (fc F P V S A : Nat) (σ τ : tvS) : Prop := CORE K1 K2 m μ fc fc [] [] F A P 0 (wr (wr σ 62 5 (i32 (-1))) 62 6 (i32 (-1))) (wr (wr (wr τ 123 28 (i32 fc)) 123 40 0) 123 43 0) ∧ (rd σ 62 3 = i32 A ∧ rd τ 123 17 = i32 A ∧ A ≤ m ∧ rd σ 62 11 = i32 (0 : Nat) ∧ 3 * F ≤ A ∧ P ≤ wch μ A) ∧ (rd σ 15 19 = i32 V ∧ V ≤ A ∧ rd τ 123 42 = i32 S ∧ S ≤ A)
theorem BST.cal (h : BST K1 K2 m μ fc F P V S A σ τ) (p f : Nat) (hp : p < P) (h3 : rd σ 16 p = i32 3) (h27 : rd σ 27 p = i32 f) (hf : f < 1000) : f < fc := by
  obtain ⟨hc, _⟩ := h
  obtain ⟨V', S', q0, a5, a7, a8, hm, a6, ⟨b1, b2, b3, b4, b5, b6, b7⟩, a14⟩ := hc.scS
  obtain ⟨V', S', C, q, cp, _, _, _, _, _, _, _, _, _, _, hpr, _⟩ := hc
  obtain ⟨κ, s, kids, g1, g2, g⟩ := hpr p hp
  have hk3 : κ = 3 := by
    have e : i32 (κ : Int) = i32 ((3 : Nat) : Int) := by
      rw [← g2, wr_nek (by omega), wr_nek (by omega), h3]; rfl
    have := (i32_inj (by omega) (by omega) (by omega) (by omega)).mp e
    omega
  obtain ⟨_, _, _, _, _, _, _, _, _, _, _, c1, c2⟩ := g
  obtain ⟨_, f', a, d1, d2, d3, _⟩ := c2 hk3
  have e : f' = f := by
    have := (i32_inj (by omega) (by omega) (by omega) (by omega)).mp (d1.symm.trans (((wr_nek (by omega)).trans (wr_nek (by omega))).trans h27))
    omega
  rw [b4, i32_ixn (by omega)] at d2
  omega
theorem BST.head (h : BST K1 K2 m μ fc F P V S A σ τ) (hA : A + 1 ≤ m) (hv : hvk σ (μ (A + 1)) (A + 1) fc = 0) (h24 : μ (A + 1 + 1) = 24) :
    fc < 20 ∧ A + 1 < m ∧ PST K1 K2 m μ fc F P V S 0 (A + 1 + 1 + 1) (cHd σ A fc V) (mHd τ A fc P V S) ∧ FR2 fc P V S σ τ (cHd σ A fc V) (mHd τ A fc P V S) := by
  have hcal := h.cal
  obtain ⟨hc, ⟨s1, s2, s3, s4, s5, s6⟩, ⟨k2, k3, k4, k5⟩⟩ := h
  obtain ⟨q1, q2, q3⟩ := hvk_0 hv
  obtain ⟨c1, c2, c3, c4, ⟨c5, c5'⟩, c6⟩ := hc.lv
  obtain ⟨V', S', q0, a5, a7, a8, hm, a6, ⟨b1, b2, b3, b4, b5, ⟨b6, b6'⟩, b7⟩, a14⟩ := hc.scS
  have c2' : mu τ = μ := c2
  have c1' : LV m σ τ := c1
  have hw := c1.2.2.2.2.2.2.1 A s3
  rw [c2] at hw
  have hlt : ∀ j, j ≤ m → μ j ≠ 36 → j < m := fun j hj hne => by
    apply Classical.byContradiction
    intro q
    have h36 := c1'.2.2.1
    rw [c2', show m = j by omega] at h36
    exact hne h36
  have hl1 := hlt (A + 1) hA (by omega)
  have hl2 := hlt (A + 1 + 1) hl1 (by omega)
  obtain ⟨x1, x2, x3, x4, x5, x6⟩ := cHd_at (σ := σ) (A := A) (fc := fc) (V := V)
  obtain ⟨⟨y1, y2, y3, y4, y5⟩, y6, y7, y8, y9, y10, y11, y12⟩ := mHd_at (τ := τ) (A := A) (fc := fc) (P := P) (V := V) (S := S)
  have e28 : rd (wr (wr (wr τ 123 28 (i32 fc)) 123 40 0) 123 43 0) 123 28 = i32 fc := by rw [wr_nei (by omega), wr_nei (by omega), wr_self]
  have hmu : mu (mHd τ A fc P V S) = mu (wr (wr (wr τ 123 28 (i32 fc)) 123 40 0) 123 43 0) := by
    funext j; unfold mu; rw [mHd_oth (by omega) (by omega)]; rfl
  refine ⟨by omega, hl1, ⟨?_, ⟨x1, y1, hl2, (cHd_oth (by omega) (by omega) (by omega)).trans s4, by omega, ?_⟩, ⟨by omega, (cHd_oth (by omega) (by omega) (by omega)).trans k2, by omega, (mHd_oth (by omega) (by omega)).trans k4, by omega⟩, ?_, fun p f hp h3 hf h27 => ?_⟩, ?_⟩
  · refine hc.gen (by omega) (by omega) (fun j i h1 h2 h3 h4 h5 => ?_) (fun j i h1 h2 h3 h4 => ?_) (fun j i hj => ?_) rfl ?_ ?_ (fun p f hp h3 hf h27 => ?_)
    · rw [rdne (by omega)]
      by_cases e5 : j = 62 ∧ i = 5
      · rw [e5.1, e5.2, x2, wr_nei (by omega), wr_self]
      · by_cases e6 : j = 62 ∧ i = 6
        · rw [e6.1, e6.2, x3, wr_self]
        · rw [rdne e6, rdne e5]
          exact cHd_oth (fun q => by
            rcases q.2 with e | e | e
            · rw [q.1, e] at h5; cases h5
            · exact e5 ⟨q.1, e⟩
            · exact e6 ⟨q.1, e⟩) h2 (by omega)
    · by_cases e40 : j = 123 ∧ i = 40
      · rw [e40.1, e40.2, y4, wr_nei (by omega), wr_self]
      · by_cases e43 : j = 123 ∧ i = 43
        · rw [e43.1, e43.2, y5, wr_self]
        · rw [rdne e43, rdne e40, rdne (by omega)]
          exact mHd_oth (fun q => by
            rcases q.2 with e | e | e | e | e
            · rw [q.1, e] at h4; cases h4
            · omega
            · omega
            · omega
            · omega) (by omega)
    · show rl (cHd σ A fc V) j i = rl σ j i
      rw [cHd_rl, if_neg (by omega)]
    · refine ⟨?_, y3, b3, ?_, y2, ⟨by omega, fun f hf => ?_⟩, fun f hf => ?_⟩
      · rw [rdne (by omega), cHd_oth (by omega) (by omega) (by omega)]
        rw [rdne (by omega), rdne (by omega)] at b1
        exact b1
      · rw [rdne (by omega)]; exact x4
      · by_cases e : f = fc
        · refine ⟨A + 1, hl1, by rw [hmu, c2]; exact q1, ?_, ?_⟩
          · show rl (cHd σ A fc V) 12 (A + 1) = rl (cHd σ A fc V) 42 f
            rw [cHd_rl, cHd_rl, if_neg (by omega), if_pos ⟨rfl, e⟩]
          · rw [e, y6]; exact mHd_oth (by omega) (by omega)
        · obtain ⟨kk, d1, d2, d3, d4⟩ := b6' f (by omega)
          refine ⟨kk, d1, by rw [hmu]; exact d2, ?_, ?_⟩
          · show rl (cHd σ A fc V) 12 kk = rl (cHd σ A fc V) 42 f
            rw [cHd_rl, cHd_rl, if_neg (by omega), if_neg (by omega)]
            exact d3
          · rw [mHd_oth (by omega) (by omega), mHd_oth (by omega) (by omega)]
            exact d4
      · by_cases e : f = fc
        · rw [e, y8, wr_self]; rfl
        · have := b7 f (by omega)
          rw [mHd_oth (by omega) (by omega), rdne (by omega), cHd_oth (by omega) (by omega) (by omega)]
          exact this
    · rw [b4, rdne (by omega), x4, i32_ixn (by omega), i32_ixn (by omega)]; omega
    · rw [b4, i32_ixn (by omega)] at hf
      exact ⟨by rw [rdne (by omega), cHd_oth (by omega) (by omega) (by omega), rdne (by omega), rdne (by omega)], by rw [rdne (by omega), cHd_oth (by omega) (by omega) (by omega), rdne (by omega), rdne (by omega)]⟩
  · have := wch_mono μ (show A ≤ A + 1 + 1 + 1 by omega)
    omega
  · have hLO : LOf (mHd τ A fc P V S) = S + 1 := by unfold LOf; rw [y3, i32_ixn (by omega), y12, i32_ixn (by omega)]
    have hP0 : P0f (mHd τ A fc P V S) = P := by unfold P0f; rw [y3, i32_ixn (by omega), y9, i32_ixn (by omega)]
    have h46 : rd (mHd τ A fc P V S) 123 46 = i32 P := by
      rw [mHd_oth (by omega) (by omega)]
      rw [rdne (by omega), rdne (by omega), rdne (by omega)] at c5'
      exact c5'
    have h42 : rd (mHd τ A fc P V S) 123 42 = i32 S := (mHd_oth (by omega) (by omega)).trans k4
    have hV0 : V0f (mHd τ A fc P V S) = V := by unfold V0f; rw [y3, i32_ixn (by omega), y10, i32_ixn (by omega)]
    have HV36 : rd τ 123 36 = i32 V := by
      rw [rdne (by omega), rdne (by omega), rdne (by omega)] at a6
      rw [rdne (by omega), rdne (by omega)] at a5
      exact a6.trans (a5.symm.trans k2)
    have h36 : rd (mHd τ A fc P V S) 123 36 = i32 V := (mHd_oth (by omega) (by omega)).trans HV36
    unfold SLO VLO
    rw [hLO, hP0, hV0, h46, h42, h36, y5, i32_ixn (by omega), i32_ixn (by omega), i32_ixn (by omega)]
    exact ⟨Or.inl rfl, Nat.le_refl _, fun s h1 h2 => by omega, fun p h1 h2 => by omega, Nat.le_refl _, (fun s h1 h2 => by omega), rfl, Nat.zero_le _⟩
  · rw [x4, i32_ixn (by omega)] at hf
    rw [cHd_oth (by omega) (by omega) (by omega)] at h3 h27
    have := hcal p f hp h3 h27 (by omega)
    omega
  · refine ⟨fun j i h1 h2 h3 => cHd_oth (by omega) (by omega) (by omega), fun j i h1 h2 => mHd_oth (by omega) (by omega), fun p hp => ⟨fun j hj => cHd_oth (by omega) (by omega) (by omega), mHd_oth (by omega) (by omega)⟩, fun s hs j hj => mHd_oth (by omega) (by omega), fun v hv => ⟨cHd_oth (by omega) (by omega) (by omega), cHd_oth (by omega) (by omega) (by omega), cHd_oth (by omega) (by omega) (by omega)⟩, fun j i h1 h2 => by rw [cHd_rl, if_neg (by omega)]⟩
end BST1
