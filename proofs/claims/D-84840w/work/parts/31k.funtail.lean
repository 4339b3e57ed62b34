/-! READING: a function from its parameters on, both -/
section FUNTAIL2
variable {L : Nat} {xs : Nat → Int32} {K1 K2 m : Nat} {μ : Nat → Nat} {g fc : Nat} {sc : List Nat} {fs fs' : List (Nat × Nat × List Nat)} {F D H n A P r r0 V S : Nat} {σ τ σ' τ' σ1 τ1 σ'' τ'' : tvS}
theorem fun_tail {V0 S0 k d : Nat} (h : PST K1 K2 m μ g F P V0 S0 k A σ τ) (hPF : ∀ f, f < g → ∃ a : Nat, rd σ 46 f = i32 a ∧ a ≤ P) (h43 : ix (rd σ 43 g) < A) (hlx : LXP g k P σ) (h143 : rd τ 143 g = i32 P) (h144 : rd τ 144 g = i32 V0) (h202 : rd τ 202 g = i32 (S0 + 1 : Nat)) (hd : 520 ≤ d) (v v' : Value) :
    (∃ (σ' τ' : tvS) (A' P' F' V' S' : Nat), rn L xs (d + 2) 110 220 [.ref 62, .int (i32 k), v, v'] [] σ = some (.inl none, wr σ' 62 3 (i32 A')) ∧ (∀ dm w w', rn L xs (dm + 10) 300 264 [.ref 123, .int (i32 g), w, w'] [] τ = some (.inl none, wr τ' 123 17 (i32 A'))) ∧
      BST K1 K2 m μ (g + 1) F' P' V' S' A' (wr (wr σ' 62 3 (i32 A')) 62 7 (i32 (g + 1 : Nat))) (wr τ' 123 17 (i32 A')) ∧ FR2 g P (V0 + k) (S0 + k) σ τ σ' τ' ∧ FRe σ' τ' g k P V0 F S0 P' V' F' S' ∧ (rd σ' 44 g = i32 k ∧ rd σ' 43 g = rd σ 43 g ∧ rd σ' 45 g = rd σ 45 g ∧ rd σ' 46 g = i32 P ∧ rd σ' 48 g = i32 F) ∧ (∀ j, 138 ≤ j ∧ j ≤ 144 ∨ j = 202 → j ≠ 142 → rd τ' j g = rd τ j g) ∧ A < A' ∧ P ≤ P' ∧ V0 + k ≤ V' ∧ S0 + k ≤ S' ∧ rd σ' 62 7 = i32 g) ∨
    ∀ dm w w', FLB K1 K2 (rn L xs (d + 2) 110 220 [.ref 62, .int (i32 k), v, v'] [] σ) (rn L xs (dm + 10) 300 264 [.ref 123, .int (i32 g), w, w'] [] τ) := by
  obtain ⟨hc, ⟨s1, s2, s3, s4, s5, s6⟩, ⟨k1, k2, k3, k4, k5⟩, hZ, hcal⟩ := h
  obtain ⟨c1, c2, c3, c4, ⟨c5, c5'⟩, c6⟩ := hc.lv
  obtain ⟨V, S, q0, a5, a7, a8, hm, a6, ⟨b1, b2, b3, b4, b5, b6, b7⟩, a14⟩ := hc.scS
  have hw := c1.2.2.2.2.2.2.1 A s3
  rw [c2] at hw
  have b1' : rd σ 62 7 = i32 g := (wr_nek (by omega)).symm.trans b1
  have hf20 := b6.1
  obtain ⟨d', rfl⟩ : ∃ d', d = d' + 3 := ⟨d - 3, by omega⟩
  have hC : rn L xs (d' + 3 + 2) 110 220 [.ref 62, .int (i32 k), v, v'] [] σ = bV (rn L xs (d' + 4) 112 0 [.ref 62, .int (i32 (sgC 25))] [] (wr σ 44 g (i32 k))) (fun t1 => bV (rn L xs (d' + 4) 112 0 [.ref 62, .int (i32 (sgC 28))] [] t1) (fun t2 => bV (rn L xs (d' + 3 + 1) 118 0 [.ref 62, jv] [] t2) (fun t3 => bV (rn L xs (d' + 4) 112 0 [.ref 62, .int (i32 (sgC 27))] [] t3) (fun t4 => some (.inl none, t4)) X0) X0) X0) X0 := by
    rw [e110_220 (d' + 4), b1', c_in (by omega) (by omega) (by omega), i32_ixn (by omega)]; rfl
  have hM : ∀ dm w w', rn L xs (dm + 10) 300 264 [.ref 123, .int (i32 g), w, w'] [] τ = bI (rn L xs (dm + 7 + 2) 303 0 [.ref 123, .int (i32 (25 : Nat))] [] τ) (fun a2 t1 => cond (pv_c1 .eq a2) (rn L xs (dm + 10) 300 308 [.ref 123, .int (i32 g), dj w, dj w'] [] t1) (bI (rn L xs (dm + 7 + 2) 303 0 [.ref 123, .int (i32 (28 : Nat))] [] t1) (fun a4 t3 => cond (pv_c1 .eq a4) (rn L xs (dm + 10) 300 308 [.ref 123, .int (i32 g), dj (dj w), dj (dj w')] [] t3) (bV (rn L xs (dm + 9) 308 0 [.ref 123, .int (i32 g)] [] t3) (fun t5 => cond (pv_c1 .ne (rd t5 123 5)) (rn L xs (dm + 10) 300 308 [.ref 123, .int (i32 g), dj (dj (dj w)), dj (dj (dj w'))] [] t5) (bI (rn L xs (dm + 7 + 2) 303 0 [.ref 123, .int (i32 (27 : Nat))] [] t5) (fun a7 t6 => rn L xs (dm + 10) 300 308 [.ref 123, .int (i32 g), jk (dj (dj (dj (dj w)))), .int a7] [] t6) X0)) X0)) X0)) X0 := fun dm w w' => by
    rw [e300_264 (dm + 9), c3, show pv_c1 .ne (0 : Int32) = false from rfl, cond_false]; rfl
  have h308 : ∀ dm a b c t, rn L xs (dm + 10) 300 308 [.ref 123, a, b, c] [] t = some (.inl none, t) := fun dm a b c t => e300_308 (dm + 9) t _ _ _ _
  -- the first sign
  have hm1 := fun dm => must_both (L := L) (xs := xs) (d := d') (dm := dm + 7) c1 c2 s3 ((wr_nek (by omega)).trans s1) s2 c3 c4.xn (show 20 ≤ 25 by omega) (by omega)
  by_cases q1 : μ A = 25
  · obtain ⟨A1, e1, _⟩ := (hm1 0).1 q1
    have e2 := fun dm => ((hm1 dm).1 q1).2.2
    rw [bV_ok e1] at hC
    have hc1 := hc.ag (σ' := wr (wr σ 44 g (i32 k)) 62 3 (i32 (A + 1 : Nat))) (τ' := wr τ 123 17 (i32 (A + 1 : Nat))) (by omega) (agC.refl.wr rfl) (agM.refl.wr rfl) (show A ≤ A + 1 by omega)
    obtain ⟨x1, x2, x3, x4, _⟩ := hc1.lv
    have hm2 := fun dm => must_both (L := L) (xs := xs) (d := d') (dm := dm + 7) x1 x2 A1 (wr_self _ _ _ _) (wr_self _ _ _ _) x3 x4.xn (show 20 ≤ 28 by omega) (by omega)
    by_cases q2 : μ (A + 1) = 28
    · obtain ⟨A2, e3, _⟩ := (hm2 0).1 q2
      have e4 := fun dm => ((hm2 dm).1 q2).2.2
      rw [bV_ok e3] at hC
      have hc2 := hc1.ag (σ' := wr (wr (wr σ 44 g (i32 k)) 62 3 (i32 (A + 1 : Nat))) 62 3 (i32 (A + 1 + 1 : Nat))) (τ' := wr (wr τ 123 17 (i32 (A + 1 : Nat))) 123 17 (i32 (A + 1 + 1 : Nat))) (by omega) (agC.refl.wr rfl) (agM.refl.wr rfl) (show A + 1 ≤ A + 1 + 1 by omega)
      have hoC : ∀ j i, ¬ (j = 62 ∧ i = 3) → ¬ (j = 44 ∧ i = g) → rd (wr (wr (wr σ 44 g (i32 k)) 62 3 (i32 (A + 1 : Nat))) 62 3 (i32 (A + 1 + 1 : Nat))) j i = rd σ j i := fun j i h1 h2 => by rw [rdne h1, rdne h1, rdne h2]
      have h44 : rd (wr (wr (wr σ 44 g (i32 k)) 62 3 (i32 (A + 1 : Nat))) 62 3 (i32 (A + 1 + 1 : Nat))) 44 g = i32 k := by rw [wr_nek (by omega), wr_nek (by omega), wr_self]
      have hoM : ∀ j i, ¬ (j = 123 ∧ i = 17) → rd (wr (wr τ 123 17 (i32 (A + 1 : Nat))) 123 17 (i32 (A + 1 + 1 : Nat))) j i = rd τ j i := fun j i h1 => by rw [rdne h1, rdne h1]
      have hrl : ∀ j i, rl (wr (wr (wr σ 44 g (i32 k)) 62 3 (i32 (A + 1 : Nat))) 62 3 (i32 (A + 1 + 1 : Nat))) j i = rl σ j i := fun j i => rfl
      have hws := wch_mono μ (show A ≤ A + 1 + 1 by omega)
      have hB := body_ok (L := L) (xs := xs) (d := d' + 3) hc2 A2 (wr_self _ _ _ _) (wr_self _ _ _ _) ((hoC 62 11 (by omega) (by omega)).trans s4) (by omega) (by omega) (fun f hf hne => by
          obtain ⟨a, y1, y2⟩ := hPF f (by omega)
          exact ⟨a, (hoC 46 f (by omega) (by omega)).trans y1, y2⟩) (fun p f hp h3 hf h27 => by
          rw [hoC _ _ (by omega) (by omega)] at h3 h27 hf
          exact hcal p f hp h3 hf h27) (hZ.congr (fun i hi => hoM _ _ (by omega)) (fun j hj i => hoM _ _ (by omega))) hd
      have hM2 : ∀ dm w w', rn L xs (dm + 10) 300 264 [.ref 123, .int (i32 g), w, w'] [] τ = bV (rn L xs (dm + 9) 308 0 [.ref 123, .int (i32 g)] [] (wr (wr τ 123 17 (i32 (A + 1 : Nat))) 123 17 (i32 (A + 1 + 1 : Nat)))) (fun t5 => cond (pv_c1 .ne (rd t5 123 5)) (some (.inl none, t5)) (bI (rn L xs (dm + 7 + 2) 303 0 [.ref 123, .int (i32 (27 : Nat))] [] t5) (fun a7 t6 => some (.inl none, t6)) X0)) X0 := fun dm w w' => by
        rw [hM dm w w', bI_ok (e2 dm), show pv_c1 .eq (1 : Int32) = false from rfl, cond_false, bI_ok (e4 dm), show pv_c1 .eq (1 : Int32) = false from rfl, cond_false]
        simp only [h308]
      have h19c : rd (wr (wr (wr σ 44 g (i32 k)) 62 3 (i32 (A + 1 : Nat))) 62 3 (i32 (A + 1 + 1 : Nat))) 15 19 = i32 (V0 + k : Nat) := (hoC 15 19 (by omega) (by omega)).trans k2
      have h42c : rd (wr (wr τ 123 17 (i32 (A + 1 : Nat))) 123 17 (i32 (A + 1 + 1 : Nat))) 123 42 = i32 (S0 + k : Nat) := (hoM 123 42 (by omega)).trans k4
      have hch : chC (wr (wr (wr σ 44 g (i32 k)) 62 3 (i32 (A + 1 : Nat))) 62 3 (i32 (A + 1 + 1 : Nat))) (pls V0 k) (rd (wr (wr (wr σ 44 g (i32 k)) 62 3 (i32 (A + 1 : Nat))) 62 3 (i32 (A + 1 + 1 : Nat))) 62 5) := by
        obtain ⟨_, _, hh, _⟩ := hc2.scS
        exact hh.1
      generalize wr (wr (wr σ 44 g (i32 k)) 62 3 (i32 (A + 1 : Nat))) 62 3 (i32 (A + 1 + 1 : Nat)) = σc at hC hc2 hoC h44 hrl hB h19c hch
      generalize wr (wr τ 123 17 (i32 (A + 1 : Nat))) 123 17 (i32 (A + 1 + 1 : Nat)) = τc at hc2 hoM hB hM2 h42c
      rcases hB with ⟨σ3, τ3, A', P', F', f1, f2, f3, ⟨g1, g2, g3, g4, g5, g6, g7, g8⟩, ⟨i1, i2, i3, i4, i5⟩, ⟨j1, j2, j3, j4⟩, j5, n1, n2, n3, n4, n5, n6, n7, n8, n9, n10, n11, n12, n13⟩ | hfl
      · rw [bV_ok f1] at hC
        obtain ⟨z1, z2, z3, z4, ⟨z5, z5'⟩, z6⟩ := f3.lv
        obtain ⟨V', S', p0, u5, u7, u8, _, u6, ⟨w1, w2, w3, w4, w5, w6, w7⟩, _⟩ := f3.scS
        have hw2 := z1.2.2.2.2.2.2.1 A' g2
        rw [z2] at hw2
        have hm3 := fun dm => must_both (L := L) (xs := xs) (d := d') (dm := dm + 7) z1 z2 g2 g3 g4 z3 z4.xn (show 20 ≤ 27 by omega) (by omega)
        by_cases q3 : μ A' = 27
        · obtain ⟨A3, e5, _⟩ := (hm3 0).1 q3
          have e6 := fun dm => ((hm3 dm).1 q3).2.2
          have hws2 := wch_mono μ (show A' ≤ A' + 1 by omega)
          have h42' := p0.2.2.2.2.2.2.2
          have k10 : V0 + k ≤ V' := by
            rw [h19c, u5, i32_ixn (by omega), i32_ixn (by omega)] at n10
            exact n10
          have k6 : S0 + k ≤ S' := by
            rw [h42c, h42', i32_ixn (by omega), i32_ixn (by omega)] at n6
            exact n6
          have hv7 : ∀ v, v < V0 + k → rd σ3 31 v = rd σc 31 v ∧ rd σ3 32 v = rd σc 32 v ∧ rd σ3 33 v = rd σc 33 v := fun v hv => n7 v (by rw [h19c, i32_ixn (by omega)]; exact hv)
          have hLO : LOf τ3 = S0 + 1 := by unfold LOf; rw [w2, i32_ixn (by omega), n2 202 g (by omega) (by omega), hoM 202 g (by omega), h202, i32_ixn (by omega)]
          have hP0 : P0f τ3 = P := by unfold P0f; rw [w2, i32_ixn (by omega), n2 143 g (by omega) (by omega), hoM 143 g (by omega), h143, i32_ixn (by omega)]
          have hZ3 := j5
          have hV0 : V0f τ3 = V0 := by unfold V0f; rw [w2, i32_ixn (by omega), n2 144 g (by omega) (by omega), hoM 144 g (by omega), h144, i32_ixn (by omega)]
          unfold SLO VLO at hZ3
          rw [hLO, hP0, hV0, h42', z5', i32_ixn (by omega), i32_ixn (by omega)] at hZ3
          have e36V : ix (rd τ3 123 36) = V' := by
            obtain ⟨_, _, _, q5, _, _, _, q6, _⟩ := f3.scS
            rw [q6.trans (q5.symm.trans u5), i32_ixn (by omega)]
          have e43 : rd σ3 43 g = rd σ 43 g := (n1 43 g (by omega) (by omega) (by omega)).trans (hoC 43 g (by omega) (by omega))
          have e18 : ∀ p, p < P → rd σ3 18 p = rd σ 18 p := fun p hp => (n3 p hp 18 (by omega)).trans (hoC 18 p (by omega) (by omega))
          have hprt : ∀ p, p < P' → ∃ S0, prtR A' S0 σ3 τ3 p := by
            obtain ⟨_, S0, _, _, _, _, _, _, _, _, _, _, _, _, _, hpr, _⟩ := f3
            exact fun p hp => ⟨S0, hpr p hp⟩
          have hcap : ∃ C cp, CAPI F' C P' cp (pls V0 k) [] σ3 := by
            obtain ⟨_, _, C, _, cp, _, _, _, _, _, _, _, _, _, _, _, _, hcap⟩ := f3
            exact ⟨C, cp, hcap⟩
          obtain ⟨C, cp, hcap⟩ := hcap
          refine Or.inl ⟨σ3, τ3, A' + 1, P', F', V', S', by rw [hC, bV_ok e5], fun dm w w' => by rw [hM2 dm w w', bV_ok (f2 dm), z3, show pv_c1 .ne (0 : Int32) = false from rfl, cond_false, bI_ok (e6 dm)], ⟨f3.toB (by omega) (by omega), ⟨by rw [wr_nei (by omega), wr_self], wr_self _ _ _ _, A3, by rw [wr_nei (by omega), wr_nei (by omega)]; exact g5, by omega, by omega⟩, ⟨by rw [wr_nek (by omega), wr_nek (by omega)]; exact u5, by omega, by rw [wr_nei (by omega)]; exact h42', by omega⟩⟩, ?_, ?_,
            ⟨(n1 44 g (by omega) (by omega) (by omega)).trans h44, (n1 43 g (by omega) (by omega) (by omega)).trans (hoC _ _ (by omega) (by omega)), (n1 45 g (by omega) (by omega) (by omega)).trans (hoC _ _ (by omega) (by omega)), i1, i3⟩, fun j h1 h2 => (n2 j g h1 (by omega)).trans (hoM _ _ (by omega)), by omega, by omega, k10, k6, w1⟩
          · refine ⟨fun j i h1 h2 h3 => (n1 j i h1 h2 (by omega)).trans (hoC j i (by omega) (by omega)), fun j i h1 h2 => (n2 j i h1 (by omega)).trans (hoM _ _ (by omega)), fun p hp => ⟨fun j hj => (n3 p hp j hj).trans (hoC j p (by omega) (by omega)), (n4 p hp).trans (hoM _ _ (by omega))⟩, fun s hs j hj => (n5 s (by rw [h42c, i32_ixn (by omega)]; exact hs) j hj).trans (hoM _ _ (by omega)), fun v hv => ⟨(hv7 v hv).1.trans (hoC _ _ (by omega) (by omega)), (hv7 v hv).2.1.trans (hoC _ _ (by omega) (by omega)), (hv7 v hv).2.2.trans (hoC _ _ (by omega) (by omega))⟩, fun j i h1 h2 => (n8 j h1 i).trans (hrl j i)⟩
          · refine ⟨i2, i4, i5, ⟨g7, k10, n9, by omega⟩, ⟨j1, j2, j3, ?_⟩, fun i hi => hcap.2.2.2.2.2.1 _ (pls_mem hi), fun p h1 h2 => hZ3.2.2.2.1 p h1 h2, fun s h1 h2 => ⟨hZ3.2.2.1 s h1 h2, by rw [← e36V]; exact hZ3.2.2.2.2.2.1 s h1 h2⟩, fun p hp h17 => ?_, fun f hf => ?_, fun v h1 h2 => ?_, fun p hp => by obtain ⟨_, hpp⟩ := hprt p hp; have := hpp.head; rw [u5, i32_ixn (by omega)] at this; exact this, by have := n12; rw [h19c, u5, i32_ixn (by omega), i32_ixn (by omega)] at this; exact this, fun p h1 h2 => by rw [e43]; have := n13 p h1 h2; omega, fun p hp => by rw [e43, e18 p hp]; exact hlx.1 p hp, hlx.2.elim .inl (fun e => .inr (fun p hp => by rw [e43, e18 p hp]; exact e p hp))⟩
            · rw [j4]
              exact hch.congr _ _ (fun v hv => ⟨(hv7 v (pls_lt hv).2).2.2, (hv7 v (pls_lt hv).2).2.1⟩)
            · obtain ⟨f, s, l, d1, d2, _⟩ := hcap.2.2.2.2.2.2.2.1 p hp h17
              rw [d1, i32_ixn (by omega)]
              exact d2
            · rcases hcap.2.2.2.2.2.2.2.2 f hf with e | ⟨p, y1, y2, y3, _⟩
              · cases e
              · exact ⟨p, y1, y2, y3⟩
            · obtain ⟨p, y1, y2⟩ := n11 v (by rw [h19c, i32_ixn (by omega)]; exact h1) (by rw [u5, i32_ixn (by omega)]; exact h2)
              by_cases hp : P ≤ p
              · exact ⟨p, hp, y1, y2⟩
              · have hb : bnd σc p v := y2.fr (P := P) (by omega) (fun p hp j hj => (n3 p hp j hj).symm)
                have := hc2.bndV (by omega) hb (by omega)
                rw [h19c, i32_ixn (by omega)] at this
                omega
        · right
          intro dm w w'
          obtain ⟨e5, _, _, _⟩ := (hm3 0).2 q3
          obtain ⟨_, e6, e7, e8⟩ := (hm3 dm).2 q3
          exact ⟨_, _, _, _, by rw [hC, bV_ex e5]; rfl, z4, by rw [hM2 dm w w', bV_ok (f2 dm), z3, show pv_c1 .ne (0 : Int32) = false from rfl, cond_false, bI_ok e6], e7, e8, by decide⟩
      · right
        intro dm w w'
        obtain ⟨σ0, τ', kk, p, y1, y2, y3, y4, y5, y6⟩ := hfl dm
        exact ⟨σ0, τ', kk, p, by rw [hC, bV_ex y1]; rfl, y2, by rw [hM2 dm w w', bV_ok y3, y4, c1_nz0 y6, cond_true], y4, y5, y6⟩
    · right
      intro dm w w'
      obtain ⟨e3, _, _, _⟩ := (hm2 0).2 q2
      obtain ⟨_, e4, e5, e6⟩ := (hm2 dm).2 q2
      exact ⟨_, _, _, _, by rw [hC, bV_ex e3]; rfl, x4, by rw [hM dm w w', bI_ok (e2 dm), show pv_c1 .eq (1 : Int32) = false from rfl, cond_false, bI_ok e4, show pv_c1 .eq (0 : Int32) = true from rfl, cond_true, h308], e5, e6, by decide⟩
  · right
    intro dm w w'
    obtain ⟨e1, _, _, _⟩ := (hm1 0).2 q1
    obtain ⟨_, e2, e5, e6⟩ := (hm1 dm).2 q1
    exact ⟨_, _, _, _, by rw [hC, bV_ex e1]; rfl, c4, by rw [hM dm w w', bI_ok e2, show pv_c1 .eq (0 : Int32) = true from rfl, cond_true, h308], e5, e6, by decide⟩
end FUNTAIL2
