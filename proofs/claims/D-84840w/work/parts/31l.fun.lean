/-! READING: a whole function, both -/
section WHOLEFUN
variable {L : Nat} {xs : Nat → Int32} {K1 K2 m : Nat} {μ : Nat → Nat} {g fc : Nat} {sc : List Nat} {fs fs' : List (Nat × Nat × List Nat)} {F D H n A P r r0 V S : Nat} {σ τ σ' τ' σ1 τ1 σ'' τ'' : tvS} {bk bP bV bF bS : Nat → Nat}
/-- the functions that are read -/
def TAB (m fc : Nat) (bk bP bV bF bS : Nat → Nat) (σ τ : tvS) : Prop := ∀ f, f < fc → FRh m σ τ f (bk f) (bP f) (bV f) (bF f) (bS f) ∧ FRe σ τ f (bk f) (bP f) (bV f) (bF f) (bS f) (bP (f + 1)) (bV (f + 1)) (bF (f + 1)) (bS (f + 1))
theorem TAB.le (h : TAB m fc bk bP bV bF bS σ τ) : ∀ j f, f + j = fc → bP f ≤ bP fc ∧ bV f ≤ bV fc ∧ bS f ≤ bS fc := by
  intro j
  induction j with
  | zero => intro f hf; have : f = fc := by omega
            subst this; exact ⟨Nat.le_refl _, Nat.le_refl _, Nat.le_refl _⟩
  | succ j ih =>
    intro f hf
    obtain ⟨a1, a2, a3⟩ := ih (f + 1) (by omega)
    obtain ⟨_, _, _, ⟨b1, b2, b3, b4⟩, _⟩ := (h f (by omega)).2
    exact ⟨by omega, by omega, by omega⟩
def BT (K1 K2 m : Nat) (μ : Nat → Nat) (fc : Nat) (bk bP bV bF bS : Nat → Nat) (A : Nat) (σ τ : tvS) : Prop := BST K1 K2 m μ fc (bF fc) (bP fc) (bV fc) (bS fc) A σ τ ∧ TAB m fc bk bP bV bF bS σ τ ∧ bP 0 = 0 ∧ bV 0 = 0 ∧ bF 0 = 0 ∧ bS 0 = 0 ∧ ∀ f, f < fc → 1 ≤ bk f
theorem fun_ok' {d : Nat} (h : BT K1 K2 m μ fc bk bP bV bF bS A σ τ) (hμA : μ A = 3) (hd : 520 ≤ d) :
    (∃ (bk' bP' bV' bF' bS' : Nat → Nat) (A' : Nat) (σ' τ' : tvS), rn L xs (d + 2) 110 0 [.ref 62, jv, jv, jv] [] σ = some (.inl none, σ') ∧ (∀ dm, rn L xs (dm + 10) 300 0 [.ref 123, jv, jv, jv] [] (wr τ 123 17 (i32 (A + 1 : Nat))) = some (.inl none, τ')) ∧ BT K1 K2 m μ (fc + 1) bk' bP' bV' bF' bS' A' (wr σ' 62 7 (i32 (fc + 1 : Nat))) τ' ∧ A < A' ∧ rd σ' 62 7 = i32 fc) ∨
    ∀ dm, FLB K1 K2 (rn L xs (d + 2) 110 0 [.ref 62, jv, jv, jv] [] σ) (rn L xs (dm + 10) 300 0 [.ref 123, jv, jv, jv] [] (wr τ 123 17 (i32 (A + 1 : Nat)))) := by
  obtain ⟨hB, hT, t1, t2, t3, t4, t5'⟩ := h
  have hle := hT.le
  have hB0 := hB
  obtain ⟨hc, ⟨s1, s2, s3, s4, s5, s6⟩, ⟨k2, k3, k4, k5⟩⟩ := hB0
  obtain ⟨c1, c2, c3, c4, ⟨c5, c5'⟩, c6⟩ := hc.lv
  obtain ⟨V', S', q0, a5, a7, a8, hm, a6, ⟨b1, b2, b3, b4, b5, b6, b7⟩, a14⟩ := hc.scS
  have c1' : LV m σ τ := c1
  have c2' : mu τ = μ := c2
  have c4' : roomC K1 K2 σ := c4
  have c3' : rd τ 123 5 = 0 := by
    rw [rdne (by omega), rdne (by omega), rdne (by omega)] at c3
    exact c3
  have hA : A + 1 ≤ m := by
    apply Classical.byContradiction
    intro q
    have h36 := c1'.2.2.1
    rw [c2', show m = A by omega] at h36
    omega
  have b1' : rd σ 62 7 = i32 fc := by rw [rdne (by omega), rdne (by omega)] at b1; exact b1
  have b4' : rd σ 15 38 = i32 fc := by rw [rdne (by omega), rdne (by omega)] at b4; exact b4
  have b5' : rd τ 123 27 = i32 fc := by rw [rdne (by omega), rdne (by omega), rdne (by omega)] at b5; exact b5
  have c5'' : rd τ 123 46 = i32 (bP fc) := by rw [rdne (by omega), rdne (by omega), rdne (by omega)] at c5'; exact c5'
  have a6' : rd τ 123 36 = i32 (bV fc) := by
    rw [rdne (by omega), rdne (by omega), rdne (by omega)] at a6
    rw [rdne (by omega), rdne (by omega)] at a5
    rw [a6, ← a5, k2]
  have b6' : FUNS m fc σ τ := b6
  obtain ⟨d', rfl⟩ : ∃ d', d = d' + 4 := ⟨d - 4, by omega⟩
  obtain ⟨h1, h2, h3⟩ := head_c (L := L) (xs := xs) c1' c2' hA s1 c4'.xn b4' b1' (by omega) k2 d'
  have hm1 := fun dm => head_m (L := L) (xs := xs) (σ := σ) c1' c2' hA c3' b6' b5' c5'' a6' k4 (dm + 6)
  by_cases hv : hvk σ (μ (A + 1)) (A + 1) fc = 0
  · by_cases h24 : μ (A + 1 + 1) = 24
    · obtain ⟨f1, f2, hP, hF⟩ := hB.head hA hv h24
      obtain ⟨v, e1⟩ := h3 hv h24
      obtain ⟨x1, x2, x3, x4, x5, x6⟩ := cHd_at (σ := σ) (A := A) (fc := fc) (V := bV fc)
      obtain ⟨⟨y1, y2, y3, y4, y5⟩, y6, y7, y8, y9, y10, y11, y12⟩ := mHd_at (τ := τ) (A := A) (fc := fc) (P := bP fc) (V := bV fc) (S := bS fc)
      have e2 := fun dm => (hm1 dm).2.2 hv h24
      generalize cHd σ A fc (bV fc) = σ1 at hP hF e1 x1 x2 x3 x4 x5 x6
      generalize mHd τ A fc (bP fc) (bV fc) (bS fc) = τ1 at hP hF e2 y1 y2 y3 y4 y5 y6 y7 y8 y9 y10 y11 y12
      rcases par_loop (L := L) (xs := xs) 5 0 (A + 1 + 1 + 1) σ1 τ1 1 rfl hP rfl with ⟨k, A2, σ2, τ2, hP2, hF2, r3, r4, r5, r6, r7, r8, r9⟩ | hfl
      · obtain ⟨n1, n2, n3, n4, n5, n6, n7, n8, n9⟩ := hP2.nx (L := L) (xs := xs)
        obtain ⟨w1, w2, e3⟩ := r8 d' v
        have e5 : rn L xs (d' + 4 + 2) 110 0 [.ref 62, jv, jv, jv] [] σ = rn L xs (d' + 4 + 2) 110 220 [.ref 62, .int (i32 k), w1, w2] [] σ2 := e1.trans e3
        have e6 : ∀ dm, ∃ u u', rn L xs (dm + 10) 300 0 [.ref 123, jv, jv, jv] [] (wr τ 123 17 (i32 (A + 1 : Nat))) = rn L xs (dm + 10) 300 264 [.ref 123, .int (i32 fc), u, u'] [] τ2 := fun dm => by
          obtain ⟨u, e7⟩ := e2 dm
          obtain ⟨u1, u2, e8⟩ := r9 (dm + 6) u
          exact ⟨u1, u2, e7.trans e8⟩
        have hlast : ∀ p, p < bP fc → ix (rd σ 18 p) < A := fun p hp => hc.last (by omega) hp
        have e18 : ∀ p, p < bP fc → rd σ2 18 p = rd σ 18 p := fun p hp => ((hF2.2.2.1 p hp).1 18 (by omega)).trans ((hF.2.2.1 p hp).1 18 (by omega))
        have hlx : LXP fc k (bP fc) σ2 := by
          have e43 : ix (rd σ2 43 fc) = A + 1 := by rw [(r5 43 (by omega) (by omega)).trans x5, i32_ixn (by omega)]
          refine ⟨fun p hp => ?_, .inr (fun p hp => ?_)⟩
          · have := hlast p hp; rw [e18 p hp, e43]; omega
          · have := hlast p hp; rw [e18 p hp, e43]; omega
        rcases fun_tail (L := L) (xs := xs) (d := d' + 4) hP2 (fun f hf => ⟨bP f, ((hF2.1 46 f (by omega) (by omega) (by omega)).trans (hF.1 46 f (by omega) (by omega) (by omega))).trans (hT f hf).1.2.2.2.2.2.2.2.1, (hle (fc - f) f (by omega)).1⟩) (by rw [(r5 43 (by omega) (by omega)).trans x5, i32_ixn (by omega)]; omega) hlx ((r6 143 (by omega) (by omega)).trans y9) ((r6 144 (by omega) (by omega)).trans y10) ((r6 202 (by omega) (by omega)).trans y12) hd w1 w2 with ⟨σ3, τ3, A', P', F', V3, S3, z1, z2, z3, z4, z5, ⟨z6, z7, z8, z9, z10⟩, z11, z12, z13, z14, z15, h7⟩ | hfl
        · have hFF : FR2 fc (bP fc) (bV fc) (bS fc) σ τ σ3 τ3 := (hF.trans hF2 (Nat.le_refl _) (by omega) (by omega)).trans z4 (Nat.le_refl _) (by omega) (by omega)
          have hk5 := hP2.2.2.1.1
          have hrow : FRh m σ3 τ3 fc k (bP fc) (bV fc) (bF fc) (bS fc) := ⟨⟨A + 1, f2, z7.trans ((r5 43 (by omega) (by omega)).trans x5), (z11 139 (by omega) (by omega)).trans ((r6 139 (by omega) (by omega)).trans y7)⟩, z6, (z11 140 (by omega) (by omega)).trans n5, hk5, z8.trans ((r5 45 (by omega) (by omega)).trans x6), (z11 141 (by omega) (by omega)).trans ((r6 141 (by omega) (by omega)).trans y11), (z11 144 (by omega) (by omega)).trans ((r6 144 (by omega) (by omega)).trans y10), z9, (z11 143 (by omega) (by omega)).trans ((r6 143 (by omega) (by omega)).trans y9), z10, (z11 202 (by omega) (by omega)).trans ((r6 202 (by omega) (by omega)).trans y12)⟩
          refine Or.inl ⟨fun i => if i = fc then k else bk i, fun i => if i = fc + 1 then P' else bP i, fun i => if i = fc + 1 then V3 else bV i, fun i => if i = fc + 1 then F' else bF i, fun i => if i = fc + 1 then S3 else bS i, A', wr σ3 62 3 (i32 A'), wr τ3 123 17 (i32 A'), e5.trans z1, fun dm => ?_, ⟨?_, fun f hf => ?_, ?_, ?_, ?_, ?_, fun f hf => ?_⟩, by omega, ?_⟩
          · obtain ⟨u1, u2, e7⟩ := e6 dm
            rw [e7]; exact z2 dm u1 u2
          · simp only [if_pos]; exact z3
          · by_cases e : f = fc
            · rw [e]
              simp only [if_pos, if_neg (show fc ≠ fc + 1 by omega)]
              exact ⟨hrow.stay (FR2.sm (g := fc + 1) (P := P') (V := V3) (S := S3)) (by omega), z5.stay (FR2.sm (g := fc + 1) (P := P') (V := V3) (S := S3)) (by omega) (Nat.le_refl _) (Nat.le_refl _) (Nat.le_refl _)⟩
            · simp only [if_neg e, if_neg (show f ≠ fc + 1 by omega), if_neg (show f + 1 ≠ fc + 1 by omega)]
              obtain ⟨l1, l2, l3⟩ := hle (fc - (f + 1)) (f + 1) (by omega)
              have hF5 : FR2 fc (bP fc) (bV fc) (bS fc) σ τ (wr (wr σ3 62 3 (i32 A')) 62 7 (i32 (fc + 1 : Nat))) (wr τ3 123 17 (i32 A')) := hFF.trans (FR2.sm (P := bP fc) (V := bV fc) (S := bS fc)) (Nat.le_refl _) (Nat.le_refl _) (Nat.le_refl _)
              exact ⟨(hT f (by omega)).1.stay hF5 e, (hT f (by omega)).2.stay hF5 e l1 l2 l3⟩
          · show (if 0 = fc + 1 then P' else bP 0) = 0
            rw [if_neg (by omega)]; exact t1
          · show (if 0 = fc + 1 then V3 else bV 0) = 0
            rw [if_neg (by omega)]; exact t2
          · show (if 0 = fc + 1 then F' else bF 0) = 0
            rw [if_neg (by omega)]; exact t3
          · show (if 0 = fc + 1 then S3 else bS 0) = 0
            rw [if_neg (by omega)]; exact t4
          · by_cases e : f = fc
            · simp only [if_pos e]; omega
            · simp only [if_neg e]; exact t5' f (by omega)
          · rw [wr_nei (by omega)]; exact h7
        · right
          intro dm
          obtain ⟨u1, u2, e7⟩ := e6 dm
          rw [e5, e7]
          exact hfl dm u1 u2
      · right
        intro dm
        obtain ⟨w, e3⟩ := e2 dm
        have := hfl d' (dm + 6) v w
        rw [show rn L xs (d' + 4 + 2) 110 0 [.ref 62, jv, jv, jv] [] σ = _ from e1, show rn L xs (dm + 10) 300 0 [.ref 123, jv, jv, jv] [] (wr τ 123 17 (i32 (A + 1 : Nat))) = _ from e3]
        exact this
    · right
      intro dm
      have e1 := h2 hv h24
      have e2 := (hm1 dm).2.1 hv h24
      refine ⟨cH0 σ A fc, _, _, _, e1, c4', e2, (wr_nei (by omega)).trans (wr_self _ _ _ _), ?_, by decide⟩
      rw [(c1'.2.1 (A + 1 + 1) (by
        apply Classical.byContradiction
        intro q
        have h36 := c1'.2.2.1
        rw [c2', show m = A + 1 by omega] at h36
        have := (hvk_0 hv).1
        omega)).2.1]
      exact wr_self _ _ _ _
  · right
    intro dm
    have e1 := h1 hv
    have e2 := (hm1 dm).1 hv
    refine ⟨wr σ 62 3 (i32 (A + 1 : Nat)), _, _, _, e1, c4', e2, (wr_nei (by omega)).trans (wr_self _ _ _ _), ?_, hvk_ne hv⟩
    rw [(c1'.2.1 (A + 1) hA).2.1]
    exact wr_self _ _ _ _
end WHOLEFUN
