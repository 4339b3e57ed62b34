/-! READING: what a body leaves, for the table of functions -/
section BODYTAB
variable {L : Nat} {xs : Nat → Int32} {K1 K2 m : Nat} {μ : Nat → Nat} {g fc : Nat} {F A P F' A' P' k V0 S0 : Nat} {σc τc σ3 τ3 : tvS}
theorem body_tab (hc2 : CORE K1 K2 m μ g fc (pls V0 k) [] F A P 0 σc τc) (f3 : CORE K1 K2 m μ g fc (pls V0 k) [] F' A' P' 0 σ3 τ3) (hA : A ≤ m) (g2 : A' ≤ m) (hPw : P ≤ wch μ A) (g8 : P' ≤ wch μ A') (g6 : 3 * F' ≤ A') (g7 : P < P')
    (h19c : rd σc 15 19 = i32 (V0 + k : Nat)) (hVA : V0 + k ≤ A) (h42c : rd τc 123 42 = i32 (S0 + k : Nat)) (hSA : S0 + k ≤ A) (h43 : ix (rd σc 43 g) < A) (hlx : LXP g k P σc) (h143 : rd τc 143 g = i32 P) (h144 : rd τc 144 g = i32 V0) (h202 : rd τc 202 g = i32 (S0 + 1 : Nat))
    (i2 : rd σ3 47 g = i32 P') (i4 : rd σ3 49 g = i32 F') (i5 : rd τ3 142 g = i32 (P' - 1 : Nat)) (j : rd σ3 26 (P' - 1) = i32 P ∧ rd σ3 24 (P' - 1) = i32 (-1) ∧ rd σ3 25 (P' - 1) = i32 11 ∧ rd σ3 28 (P' - 1) = rd σc 62 5) (j5 : SLO τ3)
    (n1 : ∀ j i, 43 ≤ j → j ≤ 49 → ¬ (i = g ∧ 46 ≤ j) → rd σ3 j i = rd σc j i) (n2 : ∀ j i, 138 ≤ j ∧ j ≤ 144 ∨ j = 202 → ¬ (j = 142 ∧ i = g) → rd τ3 j i = rd τc j i) (n3 : ∀ p, p < P → ∀ j, 16 ≤ j ∧ j ≤ 18 ∨ 23 ≤ j ∧ j ≤ 28 → rd σ3 j p = rd σc j p) (n4 : ∀ p, p < P → rd τ3 160 p = rd τc 160 p) (n5 : ∀ s, s ≤ ix (rd τc 123 42) → ∀ j, j = 149 ∨ j = 150 → rd τ3 j s = rd τc j s) (n6 : ix (rd τc 123 42) ≤ ix (rd τ3 123 42))
    (n7 : ∀ v, v < ix (rd σc 15 19) → rd σ3 31 v = rd σc 31 v ∧ rd σ3 32 v = rd σc 32 v ∧ rd σ3 33 v = rd σc 33 v) (n8 : ∀ j, j ≠ 29 → ∀ i, rl σ3 j i = rl σc j i) (n9 : F ≤ F') (n10 : ix (rd σc 15 19) ≤ ix (rd σ3 15 19)) (n11 : ∀ v, ix (rd σc 15 19) ≤ v → v < ix (rd σ3 15 19) → ∃ p, p < P' ∧ bnd σ3 p v) (n12 : UBF P P' (ix (rd σc 15 19)) (ix (rd σ3 15 19)) σ3) (n13 : RF A P P' σ3) :
    ∃ V' S' : Nat, rd σ3 15 19 = i32 V' ∧ V' ≤ A' ∧ rd τ3 123 42 = i32 S' ∧ S' ≤ A' ∧ V0 + k ≤ V' ∧ S0 + k ≤ S' ∧ FR2 g P (V0 + k) (S0 + k) σc τc σ3 τ3 ∧ FRe σ3 τ3 g k P V0 F S0 P' V' F' S' := by
  obtain ⟨c1, c2, c3, c4, ⟨c5, c5'⟩, c6⟩ := hc2.lv
  obtain ⟨z1, z2, z3, z4, ⟨z5, z5'⟩, z6⟩ := f3.lv
  obtain ⟨V', S', p0, u5, u7, u8, hm, u6, ⟨w1, w2, w3, w4, w5, w6, w7⟩, _⟩ := f3.scS
  have hw := c1.2.2.2.2.2.2.1 A hA
  rw [c2] at hw
  have hw2 := z1.2.2.2.2.2.2.1 A' g2
  rw [z2] at hw2
  have h42' := p0.2.2.2.2.2.2.2
  have hch : chC σc (pls V0 k) (rd σc 62 5) := by
    obtain ⟨_, _, hh, _⟩ := hc2.scS
    exact hh.1
  have k10 : V0 + k ≤ V' := by
    rw [h19c, u5, i32_ixn (by omega), i32_ixn (by omega)] at n10
    exact n10
  have k6 : S0 + k ≤ S' := by
    rw [h42c, h42', i32_ixn (by omega), i32_ixn (by omega)] at n6
    exact n6
  have hv7 : ∀ v, v < V0 + k → rd σ3 31 v = rd σc 31 v ∧ rd σ3 32 v = rd σc 32 v ∧ rd σ3 33 v = rd σc 33 v := fun v hv => n7 v (by rw [h19c, i32_ixn (by omega)]; exact hv)
  have hLO : LOf τ3 = S0 + 1 := by unfold LOf; rw [w2, i32_ixn (by omega), n2 202 g (by omega) (by omega), h202, i32_ixn (by omega)]
  have hP0 : P0f τ3 = P := by unfold P0f; rw [w2, i32_ixn (by omega), n2 143 g (by omega) (by omega), h143, i32_ixn (by omega)]
  have hZ3 := j5
  have hV0 : V0f τ3 = V0 := by unfold V0f; rw [w2, i32_ixn (by omega), n2 144 g (by omega) (by omega), h144, i32_ixn (by omega)]
  unfold SLO VLO at hZ3
  rw [hLO, hP0, hV0, h42', z5', i32_ixn (by omega), i32_ixn (by omega)] at hZ3
  have e36V : ix (rd τ3 123 36) = V' := by
    obtain ⟨_, _, _, q5, _, _, _, q6, _⟩ := f3.scS
    rw [q6.trans (q5.symm.trans u5), i32_ixn (by omega)]
  have e43 : rd σ3 43 g = rd σc 43 g := n1 43 g (by omega) (by omega) (by omega)
  have hprt : ∀ p, p < P' → ∃ S0, prtR A' S0 σ3 τ3 p := by
    obtain ⟨_, S0, _, _, _, _, _, _, _, _, _, _, _, _, _, hpr, _⟩ := f3
    exact fun p hp => ⟨S0, hpr p hp⟩
  have hcap : ∃ C cp, CAPI F' C P' cp (pls V0 k) [] σ3 := by
    obtain ⟨_, _, C, _, cp, _, _, _, _, _, _, _, _, _, _, _, _, hcap⟩ := f3
    exact ⟨C, cp, hcap⟩
  obtain ⟨C, cp, hcap⟩ := hcap
  refine ⟨V', S', u5, u7, h42', u8, k10, k6, ?_, ?_⟩
  · exact ⟨fun j i h1 h2 h3 => n1 j i h1 h2 (by omega), fun j i h1 h2 => n2 j i h1 (by omega), fun p hp => ⟨fun j hj => n3 p hp j hj, n4 p hp⟩, fun s hs j hj => n5 s (by rw [h42c, i32_ixn (by omega)]; exact hs) j hj, hv7, fun j i h1 h2 => n8 j h1 i⟩
  · refine ⟨i2, i4, i5, ⟨g7, k10, n9, by omega⟩, ⟨j.1, j.2.1, j.2.2.1, ?_⟩, fun i hi => hcap.2.2.2.2.2.1 _ (pls_mem hi), fun p h1 h2 => hZ3.2.2.2.1 p h1 h2, fun s h1 h2 => ⟨hZ3.2.2.1 s h1 h2, by rw [← e36V]; exact hZ3.2.2.2.2.2.1 s h1 h2⟩, fun p hp h17 => ?_, fun f hf => ?_, fun v h1 h2 => ?_, fun p hp => by obtain ⟨_, hpp⟩ := hprt p hp; have := hpp.head; rw [u5, i32_ixn (by omega)] at this; exact this, by have := n12; rw [h19c, u5, i32_ixn (by omega), i32_ixn (by omega)] at this; exact this, fun p h1 h2 => by rw [e43]; have := n13 p h1 h2; omega, fun p hp => by rw [e43, n3 p hp 18 (by omega)]; exact hlx.1 p hp, hlx.2.elim .inl (fun e => .inr (fun p hp => by rw [e43, n3 p hp 18 (by omega)]; exact e p hp))⟩
    · rw [j.2.2.2]
      exact hch.congr _ _ (fun v hv => ⟨(hv7 v (pls_lt hv).2).2.2, (hv7 v (pls_lt hv).2).2.1⟩)
    · obtain ⟨f, s, l, d1, d2, _⟩ := hcap.2.2.2.2.2.2.2.1 p hp h17
      rw [d1, i32_ixn (by omega)]
      exact d2
    · rcases hcap.2.2.2.2.2.2.2.2 f hf with e | ⟨p, y1, y2, y3, _⟩
      · cases e
      · exact ⟨p, y1, y2, y3⟩
    · obtain ⟨p, y1, y2⟩ := n11 v (by rw [h19c, i32_ixn (by omega)]; exact h1) (by rw [u5, i32_ixn (by omega)]; exact h2)
      by_cases hp : P ≤ p
      · exact ⟨p, hp, y1, y2⟩
      · have hb : bnd σc p v := y2.fr (P := P) (by omega) (fun p hp j hj => (n3 p hp j hj).symm)
        have := hc2.bndV (by omega) hb (by omega)
        rw [h19c, i32_ixn (by omega)] at this
        omega
end BODYTAB
