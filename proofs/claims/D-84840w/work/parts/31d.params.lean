/-! READING: all parameters -/
section PARAMS
variable {L : Nat} {xs : Nat → Int32} {K1 K2 m : Nat} {μ : Nat → Nat} {g fc : Nat} {sc : List Nat} {fs fs' : List (Nat × Nat × List Nat)} {F D H n A P r r0 : Nat} {σ τ σ' τ' σ1 τ1 σ'' τ'' : tvS}
/-- one parameter more -/
theorem PST.step {V0 S0 k : Nat} (h : PST K1 K2 m μ g F P V0 S0 k A σ τ) (hk : k < 5) (hv : vck σ (μ A) A g (g + 1) (pls V0 k) = 0) :
    A < m ∧ ∃ S, (∀ d, rn L xs (d + 1) 307 0 [.ref 123, .int (i32 (V0 + k : Nat))] [] (mVar τ A (V0 + k)) = some (.inl none, mOpen (mVar τ A (V0 + k)) (V0 + k) k S)) ∧ S = S0 + k ∧ PST K1 K2 m μ g F P V0 S0 (k + 1) (A + 1) (wr (cVar σ A (V0 + k) (rd σ 62 5) k) 62 5 (i32 (V0 + k : Nat))) (wr (mOpen (mVar τ A (V0 + k)) (V0 + k) k S) 140 g (i32 (k + 1 : Nat))) ∧
      FR2 g P (V0 + k) (S0 + k) σ τ (wr (cVar σ A (V0 + k) (rd σ 62 5) k) 62 5 (i32 (V0 + k : Nat))) (wr (mOpen (mVar τ A (V0 + k)) (V0 + k) k S) 140 g (i32 (k + 1 : Nat))) := by
  obtain ⟨hc, ⟨s1, s2, s3, s4, s5, s6⟩, ⟨k1, k2, k3, k4, k5⟩, hZ, hcal⟩ := h
  obtain ⟨v1, v2, v3⟩ := vck_0 hv
  obtain ⟨c1, c2, c3, c4, ⟨c5, c5'⟩, c6⟩ := hc.lv
  obtain ⟨V, S, q0, a5, a7, a8, hm, a6, ⟨b1, b2, b3, b4, b5, b6, b7⟩, a14⟩ := hc.scS
  have hlen := pls_len V0 k
  have hw := c1.2.2.2.2.2.2.1 A s3
  rw [c2] at hw
  have hVV : V = V0 + k := by
    have := (i32_inj (by omega) (by omega) (by omega) (by omega)).mp (((wr_nek (by omega)).symm.trans a5).symm.trans k2)
    omega
  subst hVV
  have hlt : A < m := by
    apply Classical.byContradiction
    intro q
    have h36 := c1.2.2.1
    rw [c2, show m = A by omega] at h36
    omega
  have hg : g ≤ 20 := b3
  have hx5 : rd (wr σ 44 g (i32 k)) 62 5 = rd σ 62 5 := wr_nek (by omega)
  have hn := hc.newv (x := rd σ 62 5) (k := k) (by omega) hlt v1 a5 (by omega)
  obtain ⟨y1, y2, y3, y4, y5, y6⟩ := cVar_at (σ := wr σ 44 g (i32 k)) (A := A) (V := V0 + k) (x := rd σ 62 5) (k := k)
  have hvs : (V0 + k) ∉ pls V0 k := fun q => by have := q0.2.2.2.2.2.1 _ q; omega
  obtain ⟨S1, j1, j2, j3, j4⟩ := hn.opn (L := L) (xs := xs) (v := V0 + k) (V := V0 + k + 1) (A' := A + 1 + 1) (by omega) (Nat.le_refl _) (by omega) y6 (by omega) (Nat.lt_succ_self _) (by rw [y3, cVar_oth (by omega) (by omega) (by omega), hx5]) (by rw [y4, hlen]) (by omega) (fun u hu => by
      have hne : u ≠ V0 + k := fun e => hvs (by rw [← e]; exact hu)
      rw [cVar_rl, if_neg (by omega), cVar_rl, if_pos ⟨rfl, rfl⟩]
      exact v2 u hu) (by
      rw [y2]
      obtain ⟨V', S', C, q, cp, _, _, _, _, _, _, _, _, _, _, _, _, hcap⟩ := hc
      exact hcap.2.1)
  rw [hlen] at j2 j4
  have hS1 : S1 = S0 + k := by
    have e := (mVar_oth (τ := τ) (A := A) (V := V0 + k) (j := 123) (i := 42) (by omega) (by omega)).trans k4
    have := (i32_inj (by omega) (by omega) (by omega) (by omega)).mp (j3.symm.trans e)
    omega
  subst hS1
  refine ⟨hlt, S0 + k, j2, rfl, ?_, ?_⟩
  · obtain ⟨z1, z2, z3⟩ := mOpen_123 (τ := mVar τ A (V0 + k)) (v := V0 + k) (len := k) (S := S0 + k)
    have h5 := hn.lv
    have j5 := j4.lower (A1 := A + 1) (V := V0 + k + 1) (S := S0 + k + 1) (by omega) ((wr_nek (by omega)).trans y6) (by omega) (by omega) z2 (by omega) (by omega) (fun p hp => by rw [wr_nek (by omega), cVar_oth (by omega) (by omega) (by omega)]; have := hc.last (by omega) hp; omega)
    -- the same, as it is
    have hr44 : rd (cVar (wr σ 44 g (i32 k)) A (V0 + k) (rd σ 62 5) k) 44 g = i32 k := by rw [cVar_oth (by omega) (by omega) (by omega), wr_self]
    have hpt : ∀ j i, ¬ (j = 44 ∧ i = g) → rd (cVar σ A (V0 + k) (rd σ 62 5) k) j i = rd (cVar (wr σ 44 g (i32 k)) A (V0 + k) (rd σ 62 5) k) j i := fun j i hj => by
      obtain ⟨w1, w2, w3, w4, w5, w6⟩ := cVar_at (σ := σ) (A := A) (V := V0 + k) (x := rd σ 62 5) (k := k)
      by_cases e1 : j = 62 ∧ i = 3
      · rw [e1.1, e1.2, y5, w5]
      · by_cases e2 : j = 15 ∧ i = 19
        · rw [e2.1, e2.2, y6, w6]
        · by_cases e3 : 30 ≤ j ∧ j ≤ 33 ∧ i = V0 + k
          · obtain ⟨e4, e5, e6⟩ := e3
            have : j = 30 ∨ j = 31 ∨ j = 32 ∨ j = 33 := by omega
            rw [e6]
            rcases this with e | e | e | e <;> rw [e]
            · rw [y1, w1]
            · rw [y2, w2, wr_nek (by omega)]
            · rw [y3, w3]
            · rw [y4, w4]
          · rw [cVar_oth e1 e2 e3, cVar_oth e1 e2 e3, rd_wr, if_neg hj]
    obtain ⟨w1, w2, w3, w4, w5, w6⟩ := cVar_at (σ := σ) (A := A) (V := V0 + k) (x := rd σ 62 5) (k := k)
    have hws := wch_mono μ (show A ≤ A + 1 by omega)
    have hco : ∀ j i, ¬ (j = 62 ∧ i = 3) → ¬ (j = 15 ∧ i = 19) → ¬ (30 ≤ j ∧ j ≤ 33 ∧ i = V0 + k) → ¬ (j = 62 ∧ i = 5) → rd (wr (cVar σ A (V0 + k) (rd σ 62 5) k) 62 5 (i32 (V0 + k : Nat))) j i = rd σ j i := fun j i h1 h2 h3 h4 => by
      rw [rdne h4]; exact cVar_oth h1 h2 h3
    refine ⟨?_, ⟨by rw [wr_nei (by omega)]; exact w5, ?_, hlt, (hco 62 11 (by omega) (by omega) (by omega) (by omega)).trans s4, by omega, by omega⟩, ⟨by omega, by rw [wr_nek (by omega)]; exact w6, by omega, by rw [wr_nek (by omega)]; exact z2, by omega⟩, ?_, ?_⟩
    · refine j5.gen (Nat.le_refl _) (by omega) (fun j i h1 h2 h3 h4 h5 => ?_) (fun j i h1 h2 h3 h4 => rdne (by omega)) (fun j i _ => ?_) rfl ?_ ?_ (fun p f hp h3 hf h27 => ?_)
      · rw [rdne (by omega)]
        by_cases e : j = 62 ∧ i = 5
        · rw [e.1, e.2, wr_self, wr_self]
        · rw [rdne e, rdne e]; exact hpt j i (by omega)
      · show rl (cVar σ A (V0 + k) (rd σ 62 5) k) j i = rl (cVar (wr σ 44 g (i32 k)) A (V0 + k) (rd σ 62 5) k) j i
        rw [cVar_rl, cVar_rl]; rfl
      · -- the functions that are known
        have hF4 : FNC m g (g + 1) (wr (cVar (wr σ 44 g (i32 k)) A (V0 + k) (rd σ 62 5) k) 62 5 (i32 (V0 + k : Nat))) (mOpen (mVar τ A (V0 + k)) (V0 + k) k (S0 + k)) := by
          obtain ⟨_, _, _, _, _, _, _, _, hh, _⟩ := j4.scS
          exact hh
        obtain ⟨d1, d2, d3, d4, d5, ⟨d6, d7⟩, d8⟩ := hF4
        refine ⟨?_, (rdne (by omega)).trans d2, d3, ?_, (rdne (by omega)).trans d5, ⟨d6, fun f hf => ?_⟩, fun f hf => ?_⟩
        · rw [rdne (by omega), rdne (by omega), hpt 62 7 (by omega)]
          rw [rdne (by omega)] at d1
          exact d1
        · rw [rdne (by omega), rdne (by omega), hpt 15 38 (by omega)]
          rw [rdne (by omega)] at d4
          exact d4
        · obtain ⟨kk, e1, e2, e3, e4⟩ := d7 f hf
          refine ⟨kk, e1, e2, ?_, ?_⟩
          · show rl (cVar σ A (V0 + k) (rd σ 62 5) k) 12 kk = rl (cVar σ A (V0 + k) (rd σ 62 5) k) 42 f
            have e3 : rl (cVar (wr σ 44 g (i32 k)) A (V0 + k) (rd σ 62 5) k) 12 kk = rl (cVar (wr σ 44 g (i32 k)) A (V0 + k) (rd σ 62 5) k) 42 f := e3
            rw [cVar_rl, cVar_rl] at e3 ⊢
            exact e3
          · rw [rdne (by omega), rdne (by omega)]; exact e4
        · by_cases e : f = g
          · rw [e, wr_self, wr_self]
          · have d9 := d8 f hf
            rw [rdne (by omega), rdne (by omega), rdne (by omega), hpt 44 f (by omega)]
            rw [rdne (by omega)] at d9
            exact d9
      · rw [rdne (by omega), rdne (by omega), rdne (by omega), hpt 15 38 (by omega)]; exact Nat.le_refl _
      · have hfg : f ≠ g := by
          rw [rdne (by omega), cVar_oth (by omega) (by omega) (by omega), wr_nek (by omega)] at h3 h27
          rw [rdne (by omega), cVar_oth (by omega) (by omega) (by omega), wr_nek (by omega)] at hf
          exact hcal p f hp h3 hf h27
        exact ⟨by rw [rdne (by omega), rdne (by omega), rdne (by omega), hpt 44 f (by omega)], by rw [rdne (by omega), rdne (by omega), rdne (by omega), hpt 46 f (by omega)]⟩
    · rw [wr_nek (by omega), mOpen_oth (by omega) (by omega)]; exact mVar_at.2.2.2
    · refine SLO.congr (SLO.opn (hZ.con (by rw [mVar_at.2.2.1, a6, i32_ixn (by omega), i32_ixn (by omega)]; omega) (fun i hi => mVar_oth (by omega) (by omega)) (fun j hj i => mVar_oth (by omega) (by omega))) j3 (by omega) (by have := hZ.2.2.2.2.1; rw [a6, i32_ixn (by omega)] at this; rw [show V0f (mVar τ A (V0 + k)) = V0f τ from by unfold V0f; rw [mVar_oth (by omega) (by omega), mVar_oth (by omega) (by omega)]]; exact this) (by omega) (by rw [mVar_at.2.2.1, i32_ixn (by omega)]; omega)) (fun i hi => wr_nek (by omega)) (fun j hj i => wr_nek (by omega))
    · intro p f hp h3 hf h27
      rw [hco _ _ (by omega) (by omega) (by omega) (by omega)] at h3 h27 hf
      exact hcal p f hp h3 hf h27
  · have har := fun i => mOpen_ar (τ := mVar τ A (V0 + k)) (v := V0 + k) (len := k) (S := S0 + k) i
    refine ⟨fun j i h1 h2 h3 => ?_, fun j i h1 h2 => ?_, fun p hp => ⟨fun j hj => ?_, ?_⟩, fun s hs js hjs => ?_, fun v hv => ⟨?_, ?_, ?_⟩, fun j i h1 h2 => ?_⟩
    · rw [rdne (by omega)]; exact cVar_oth (by omega) (by omega) (by omega)
    · rw [rdne (by omega), mOpen_oth (by omega) (by omega)]; exact mVar_oth (by omega) (by omega)
    · rw [rdne (by omega)]; exact cVar_oth (by omega) (by omega) (by omega)
    · rw [rdne (by omega), mOpen_oth (by omega) (by omega)]; exact mVar_oth (by omega) (by omega)
    · rcases hjs with e | e
      · rw [e, rdne (by omega), (har s).2.2.1, if_neg (by omega)]; exact mVar_oth (by omega) (by omega)
      · rw [e, rdne (by omega), (har s).2.2.2, if_neg (by omega)]; exact mVar_oth (by omega) (by omega)
    · rw [rdne (by omega)]; exact cVar_oth (by omega) (by omega) (by omega)
    · rw [rdne (by omega)]; exact cVar_oth (by omega) (by omega) (by omega)
    · rw [rdne (by omega)]; exact cVar_oth (by omega) (by omega) (by omega)
    · show rl (cVar σ A (V0 + k) (rd σ 62 5) k) j i = _
      rw [cVar_rl, if_neg (by omega)]
end PARAMS
