/-! FROM THE READERS TO THE PROGRAM: the view -/
section PRGVIEW2
variable {K1 K2 m : Nat} {μ : Nat → Nat} {fc : Nat} {σ τ : tvS} {bk bP tV bF bS : Nat → Nat}
theorem PRG0.view (h : PRG0 K1 K2 m μ fc bk bP tV bF bS σ τ) : ∃ D : pgD, (D.fc = fc ∧ D.bk = bk ∧ D.bP = bP ∧ D.tV = tV ∧ D.bF = bF) ∧ PGF D m ∧ PGR D σ τ ∧ ∀ p, p < bP (fc + 1) → chC σ (D.sl p) (rd σ 28 p) ∧ D.K p = ix (rd σ 16 p) ∧ D.vl p = ix (rd σ 27 p) ∧ D.st p = ix (rd σ 26 p) := by
  obtain ⟨hc, hT, ⟨t1, t2, t3, t4⟩, ⟨u1, u2, u3⟩, u4, u5, ⟨u6, u7⟩, u8, u9, u10, u11⟩ := h
  obtain ⟨c1, c2, _⟩ := hc.lv
  obtain ⟨_, _, _, _, _, _, _, _, hFN, _⟩ := hc.scS
  have hw2 := c1.2.2.2.2.2.2.1 m (Nat.le_refl _)
  rw [c2] at hw2
  have hm := c1.1
  have hle := hT.le
  have hV : ix (rd σ 15 19) ≤ 3000 := by rw [u4, i32_ixn (by omega)]; omega
  have h60 : ix (rd τ 123 60) ≤ 4001 := by
    obtain ⟨V, S, C, q, cp, _, _, _, _, _, ⟨q1, q2⟩, _⟩ := hc
    rw [q1, i32_ixn (by omega)]; omega
  obtain ⟨S, hpr⟩ : ∃ S, ∀ p, p < bP (fc + 1) → prtR m S σ τ p := by
    obtain ⟨V, S, C, q, cp, _, _, _, _, _, _, _, _, _, _, hpr, _⟩ := hc
    exact ⟨S, hpr⟩
  obtain ⟨F, hF⟩ := (Classical.skolem (p := fun (p : Nat) (kl : List Nat × List Nat) => p < bP (fc + 1) → PBd m S σ τ p kl.1 kl.2)).mp (fun p => by
    by_cases hp : p < bP (fc + 1)
    · obtain ⟨k, l, hk⟩ := (hpr p hp).bd hm (by omega)
      exact ⟨(k, l), fun _ => hk⟩
    · exact ⟨([], []), fun q => absurd q hp⟩)
  let D : pgD := ((fc, bk, bP, tV, bF), (fun p => (ix (rd σ 16 p), ix (rd σ 26 p), (F p).1, (F p).2, ix (rd σ 27 p), ix (rd σ 17 p), ix (rd τ 162 p))), fun h => ix (rd σ 36 h))
  have hN : ∀ p, p < bP (fc + 1) → contN D.st (D.st p) (D.kd p) p := fun p hp => contK.N _ _ _ (by omega) (hF p hp).2.2.2.2.2.2.2.1
  have hbd : ∀ p v, p < bP (fc + 1) → (v ∈ D.bd p ↔ bnd σ p v) := fun p v hp => (hF p hp).bnd (D := D) ⟨rfl, rfl, rfl⟩ (by omega) hV
  have hmono : ∀ f g, f ≤ g → g ≤ fc + 1 → bP f ≤ bP g ∧ bF f ≤ bF g := fun f g => by
    intro h1 h2
    obtain ⟨k, rfl⟩ : ∃ k, g = f + k := ⟨g - f, by omega⟩
    clear h1
    induction k with
    | zero => exact ⟨Nat.le_refl _, Nat.le_refl _⟩
    | succ k ih =>
      have a := ih (by omega)
      have b := (hT (f + k) (by omega)).2.2.2.2.1
      have b1 := b.1
      have b2 := b.2.2.1
      show bP f ≤ bP (f + k + 1) ∧ bF f ≤ bF (f + k + 1)
      omega
  refine ⟨D, ⟨rfl, rfl, rfl, rfl, rfl⟩, ⟨⟨?_, hm, by show bP (fc + 1) ≤ 4001; omega, by show tV (fc + 1) ≤ 3000; omega, u8⟩, ⟨t1, t2, t3⟩, fun f hf => ?_⟩, ⟨fun f hf => ?_, fun p hp => ?_⟩, fun p hp => ⟨(hF p hp).2.2.2.2.2.2.2.2.2.1.1.1, rfl, rfl, rfl⟩⟩
  · exact hFN.2.2.1
  · -- a function
    have hf : f ≤ fc := hf
    obtain ⟨hH, e1, e2, e3, ⟨e4, e5, e6, e7⟩, ⟨e8, e9, e10, e11⟩, e12, e13, e14, e15, e16, e17, e18, ⟨e19, e20⟩, e21, e22⟩ := hT f (by omega)
    have hP1 := (hmono (f + 1) (fc + 1) (by omega) (Nat.le_refl _)).1
    have hW : bP (f + 1) - 1 < bP (fc + 1) := by omega
    have stW : D.st (bP (f + 1) - 1) = bP f := by show ix (rd σ 26 (bP (f + 1) - 1)) = bP f; rw [e8, i32_ixn (by omega)]
    refine ⟨⟨e4, e5, e6, hH.2.2.2.1⟩, ⟨stW, ?_⟩, fun p h1 h2 => ?_, fun p h1 h2 => ?_, fun k h1 h2 => ?_, fun v h1 h2 => ?_, fun p q v h1 h2 h3 h4 h5 h6 => ?_⟩
    · exact chC.uni _ _ _ (hF _ hW).2.2.2.2.2.2.2.2.2.1.1.1 e11
    · -- a part
      have h1 : bP f ≤ p := h1
      have h2 : p < bP (f + 1) := h2
      have hp : p < bP (fc + 1) := by omega
      have hB := hF p hp
      obtain ⟨a1, a2, a3, a4, ⟨a5, a6⟩, a7, a8, a9, a10, ⟨l1, l2, ⟨l3, nn⟩, o19, o20, o17⟩, a12, a13, cl⟩ := hB
      have hs := contK.le _ _ _ a9
      refine ⟨⟨a1, a6, ?_, hs⟩, hN p hp, cl.1, fun k3 => ?_, l3, fun w c hw => ?_, fun k17 => ?_, fun v hv => ?_⟩
      · by_cases e : p = bP (f + 1) - 1
        · rw [e, stW]; exact Nat.le_refl _
        · obtain ⟨q, w, _, _, _, q4⟩ := sub_par hN (bP (f + 1) - 1) (bP (f + 1) - 1) p (Nat.le_refl _) hW (by rw [stW]; exact h1) (by omega)
          rw [stW] at q4; exact q4
      · obtain ⟨⟨b0, _⟩, g, x, b1, b2, b3, b4, b5, b6⟩ := cl.2 k3
        have eg : D.vl p = g := by show ix (rd σ 27 p) = g; rw [b1, i32_ixn (by omega)]
        have hgf : g < fc := by
          have := hFN.2.2.2.1
          rw [this, i32_ixn (by have := hFN.2.2.1; omega)] at b2
          exact b2
        obtain ⟨_, g1, _, g3, _, _, _, g7, _⟩ := (hT g (by omega)).1
        have hx : bP g = x := by
          have := (hmono g (fc + 1) (by omega) (Nat.le_refl _)).1
          have := (i32_inj (by omega) (by omega) (by omega) (by omega)).mp (g7.symm.trans b5)
          omega
        have hln : (D.kd p).length = bk g := by
          obtain ⟨g0, _, _, g4, _⟩ := (a13.2.2.2.2.2.2.2.2.2 k3).2.2
          have : (F p).1.length ≤ 4001 := by omega
          have := (i32_inj (by omega) (by omega) (by omega) (by omega)).mp (b4.symm.trans g1)
          show (F p).1.length = bk g
          omega
        refine ⟨?_, ?_, by rw [eg]; exact hgf, by rw [eg]; exact hln⟩
        · show 1 ≤ (F p).1.length
          cases hk : (F p).1 with
          | nil => exact absurd hk b0
          | cons _ _ => simp
        · rw [eg]
          apply Classical.byContradiction
          intro k
          have := (hmono (f + 1) g (by omega) (by omega)).1
          omega
      · have hcp := contN.at _ _ _ _ _ (hN p hp) hw
        exact chC.uni _ _ _ (hF c (by omega)).2.2.2.2.2.2.2.2.2.1.1.1 (l2 w c hw).1
      · have k17 : ix (rd σ 16 p) = 17 := k17
        have h16 : rd σ 16 p = i32 17 := by rw [a2, k17]; rfl
        refine ⟨?_, e15 p h2 h16⟩
        apply Classical.byContradiction
        intro k
        have k : ¬ bF f ≤ ix (rd σ 27 p) := k
        have hf0 : 1 ≤ f := by
          apply Classical.byContradiction
          intro k0
          rw [show f = 0 by omega, t3] at k; omega
        obtain ⟨_, _, _, _, _, _, _, _, _, _, r16, _⟩ := hT (f - 1) (by omega)
        rw [show f - 1 + 1 = f by omega] at r16
        obtain ⟨p', p1, p2, p3⟩ := r16 (ix (rd σ 27 p)) (by omega)
        have hp' : p' < bP (fc + 1) := by omega
        obtain ⟨b1, b2, _, _, _, _, _, _, _, _, _, b13, _⟩ := hF p' hp'
        have hk' : ix (rd σ 16 p') = 17 := by rw [p2]; rfl
        obtain ⟨x, x1, x2, _, x4⟩ := a13.2.2.2.2.2.2.2.1 k17
        obtain ⟨y, y1, y2, _, y4⟩ := b13.2.2.2.2.2.2.2.1 hk'
        have exy : x = y := by
          rw [x2, i32_ixn (by omega)] at p3
          have := (i32_inj (by omega) (by omega) (by omega) (by omega)).mp (p3.symm.trans y2)
          omega
        subst exy
        have := (i32_inj (by omega) (by omega) (by omega) (by omega)).mp (x4.symm.trans y4)
        omega
      · exact e19 p v h1 h2 ((hbd p v hp).mp hv)
    · obtain ⟨q, w, q1, q2, q3, _⟩ := sub_par hN (bP (f + 1) - 1) (bP (f + 1) - 1) p (Nat.le_refl _) hW (by rw [stW]; exact h1) (by have h2 : p + 1 < bP (f + 1) := h2; omega)
      exact ⟨q, w, q1, by show q < bP (f + 1); omega, q3⟩
    · have h1 : bF f ≤ k := h1
      obtain ⟨p, p1, p2, p3⟩ := e16 k h2
      have hbF := (hmono (f + 1) (fc + 1) (by omega) (Nat.le_refl _)).2
      have h2 : k < bF (f + 1) := h2
      refine ⟨p, ?_, p1, by show ix (rd σ 16 p) = 17; rw [p2]; rfl, by show ix (rd σ 27 p) = k; rw [p3, i32_ixn (by omega)]⟩
      apply Classical.byContradiction
      intro q
      have q : ¬ bP f ≤ p := q
      have hf0 : 1 ≤ f := by
        apply Classical.byContradiction
        intro k0
        rw [show f = 0 by omega, t1] at q; omega
      obtain ⟨_, _, _, _, _, _, _, _, _, r15, _⟩ := hT (f - 1) (by omega)
      rw [show f - 1 + 1 = f by omega] at r15
      have := r15 p (by omega) p2
      rw [p3, i32_ixn (by omega)] at this
      omega
    · obtain ⟨p, p1, p2, p3⟩ := e17 v h1 h2
      exact ⟨p, p1, p2, (hbd p v (by omega)).mpr p3⟩
    · have h2 : p < bP (f + 1) := h2
      have h4 : q < bP (f + 1) := h4
      exact e20 p q v h1 h2 h3 h4 ((hbd p v (by omega)).mp h5) ((hbd q v (by omega)).mp h6)
  · -- what both have of a function
    have hf : f ≤ fc := hf
    obtain ⟨⟨_, g1, g2, g3, g4, g5, g6, g7, g8, g9, g10⟩, e1, e2, e3, _, ⟨e8, e9, e10, e11⟩, _⟩ := hT f (by omega)
    refine ⟨⟨g1, g4, g7, e1, g9, e2⟩, ⟨g2, g5, e3, g8, ?_, g6, ?_⟩, e9, e10⟩
    · by_cases e : f = fc
      · rw [e]; exact u1
      · exact (hT (f + 1) (by omega)).1.2.2.2.2.2.2.2.2.1
    · by_cases e : f = fc
      · rw [e]; exact u2
      · exact (hT (f + 1) (by omega)).1.2.2.2.2.2.2.1
  · -- of a part
    have hp : p < bP (fc + 1) := hp
    obtain ⟨a1, a2, a3, a4, ⟨a5, a6⟩, a7, a8, a9, a10, ⟨l1, l2, ⟨l3, nn⟩, o19, o20, o17⟩, a12, ⟨w1, w2, w3, w4, w5, w6, w7, w8, w9, w10⟩, cl⟩ := hF p hp
    refine ⟨⟨a2, a3, a5, a4.trans a5, a7, a8, a10⟩, fun k3 w hw => ?_, fun k3 => ?_, a12, fun k => ?_, fun k17 => ?_, w2, w3⟩
    · obtain ⟨b1, b2, b3, b4⟩ := w9 k3
      refine ⟨b4 w hw, ?_⟩
      have e : w = 0 ∨ w = 1 ∨ w = 2 := by omega
      rcases e with e | e | e <;> subst e
      · exact b1.trans (b4 0 hw)
      · exact b2.trans (b4 1 hw)
      · exact b3.trans (b4 2 hw)
    · obtain ⟨b1, b2, g, b3, b4, b5, b6⟩ := w10 k3
      have eg : D.gb p = g := by show ix (rd τ 162 p) = g; rw [b3, i32_ixn (by omega)]
      rw [eg]
      exact ⟨b1, b2, b3, b4, by show g + (F p).1.length ≤ 6000; omega, b6⟩
    · have e27 : rd σ 27 p = i32 (D.vl p : Int) := by
        rcases k with k | k | k | k
        · exact (nn.1 (.inl k)).symm
        · obtain ⟨_, g, x, b1, b2, b3, _⟩ := cl.2 k
          show rd σ 27 p = i32 (ix (rd σ 27 p) : Int)
          rw [b1, i32_ixn (by omega)]
        · exact (nn.1 (.inr (.inl k))).symm
        · exact (nn.1 (.inr (.inr k))).symm
      have k' : ix (rd σ 16 p) = 0 ∨ ix (rd σ 16 p) = 2 ∨ ix (rd σ 16 p) = 3 ∨ ix (rd σ 16 p) = 19 ∨ ix (rd σ 16 p) = 20 := .inr k
      exact ⟨e27, (w1 k').trans e27⟩
    · obtain ⟨x, x1, x2, x3, x4⟩ := w8 k17
      have ex : D.vl p = x := by show ix (rd σ 27 p) = x; rw [x2, i32_ixn (by omega)]
      have hg : rd σ 36 x = i32 (D.gv x : Int) := by
        have := nn.2 k17
        rw [x2, i32_ixn (by omega)] at this
        exact this.symm
      rw [ex]
      exact ⟨x2, hg, x3.trans hg, x4⟩
end PRGVIEW2
