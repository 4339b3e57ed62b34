/-! READING: the main expression, both -/
section MAINOK
variable {L : Nat} {xs : Nat → Int32} {K1 K2 m : Nat} {μ : Nat → Nat} {g fc : Nat} {sc : List Nat} {fs fs' : List (Nat × Nat × List Nat)} {F D H n A P r r0 V S : Nat} {σ τ σ' τ' σ1 τ1 σ'' τ'' : tvS} {bk bP tV bF bS : Nat → Nat}
/-- the rows behind main -/
def mEd (t : tvS) (fc : Nat) : tvS := wr (wr (wr t 143 (fc + 1) (rd t 123 46)) 144 (fc + 1) (rd t 123 36)) 202 (fc + 1) (rd t 123 42 + 1)
theorem mEd_oth {j i : Nat} (h : ¬ ((j = 143 ∨ j = 144 ∨ j = 202) ∧ i = fc + 1)) : rd (mEd τ fc) j i = rd τ j i := by
  unfold mEd
  rw [rdne (by omega), rdne (by omega), rdne (by omega)]
theorem m179 (hfc : fc ≤ 20) (dm : Nat) (v : Value) : rn L xs (dm + 11) 298 179 [.ref 123, .int (i32 fc), v] [] τ = cond (pv_c1 .ne (rd τ 123 5)) (some (.inl none, mEd τ fc)) (bV (rn L xs (dm + 10) 330 0 [.ref 123, jv, jv, jv] [] (mEd τ fc)) (fun t => some (.inl none, t)) X0) := by
  rw [e298_179 (dm + 10), i32_n1, c_in (by omega) (by omega) (by omega), c_in (by omega) (by omega) (by omega), c_in (by omega) (by omega) (by omega), i32_ixn (by omega)]
  simp only [e298_228]
  rfl
theorem m165f (hfc : fc ≤ 20) (h : pv_c1 .le (rd τ 123 5) = false) (dm : Nat) (v : Value) : rn L xs (dm + 11) 298 165 [.ref 123, .int (i32 fc), v] [] τ = some (.inl none, mEd τ fc) := by
  rw [e298_165 (dm + 10), c1_nz0 h, cond_true, m179 hfc, c1_nz0 h, cond_true]
/-- the program that is read -/
def PRG0 (K1 K2 m : Nat) (μ : Nat → Nat) (fc : Nat) (bk bP tV bF bS : Nat → Nat) (σ τ : tvS) : Prop := CORE K1 K2 m μ fc fc [] [] (bF (fc + 1)) m (bP (fc + 1)) 0 σ τ ∧ TAB m (fc + 1) bk bP tV bF bS σ τ ∧ (bP 0 = 0 ∧ tV 0 = 0 ∧ bF 0 = 0 ∧ bS 0 = 0) ∧
  (rd τ 143 (fc + 1) = i32 (bP (fc + 1)) ∧ rd τ 144 (fc + 1) = i32 (tV (fc + 1)) ∧ rd τ 202 (fc + 1) = i32 (bS (fc + 1) + 1 : Nat)) ∧ rd σ 15 19 = i32 (tV (fc + 1)) ∧ rd τ 123 42 = i32 (bS (fc + 1)) ∧ (bk fc = 0 ∧ ∀ f, f < fc → 1 ≤ bk f) ∧ 3 * bF (fc + 1) ≤ m ∧ bP (fc + 1) ≤ wch μ m ∧ tV (fc + 1) ≤ m ∧ bS (fc + 1) ≤ m
theorem main_ok {d : Nat} (h : BT K1 K2 m μ fc bk bP tV bF bS A σ τ) (hd : 520 ≤ d) :
    (∃ (bk' bP' tV' bF' bS' : Nat → Nat) (σ' τ' : tvS), rn L xs (d + 3) 108 47 [.ref 62] [] σ = rn L xs (d + 3) 108 153 [.ref 62] [] σ' ∧ (∀ dm u u', rn L xs (dm + 11) 298 70 [.ref 123, u, u'] [] τ = bV (rn L xs (dm + 10) 330 0 [.ref 123, jv, jv, jv] [] τ') (fun t => some (.inl none, t)) X0) ∧ PRG0 K1 K2 m μ fc bk' bP' tV' bF' bS' σ' τ') ∨
    ∀ dm u u', FLB K1 K2 (rn L xs (d + 3) 108 47 [.ref 62] [] σ) (rn L xs (dm + 11) 298 70 [.ref 123, u, u'] [] τ) := by
  obtain ⟨hB, hT, t1, t2, t3, t4, t5'⟩ := h
  obtain ⟨c1, c2, c3, c4, ⟨b1, b2, b3, b4, b5⟩, b6, s1, s2, s3⟩ := hB.fx
  have hm := c1.1
  have hlt : ∀ j, j ≤ m → μ j ≠ 36 → j < m := fun j hj hne => by
    apply Classical.byContradiction
    intro q
    have h36 := c1.2.2.1
    rw [c2, show m = j by omega] at h36
    exact hne h36
  obtain ⟨k2, k3, k4, k5⟩ := hB.2.2
  obtain ⟨⟨y1, y2, y3⟩, y4, y5, y6, y7, y8, y9⟩ := mM0_at (τ := τ) (A := A) (fc := fc) (P := bP fc) (V := tV fc) (S := bS fc)
  obtain ⟨d', rfl⟩ : ∃ d', d = d' + 2 := ⟨d - 2, by omega⟩
  have hw := rmustw_ok (L := L) (xs := xs) c1 s3 s1 (w := 1) (by omega) c4.xn (d' + 1)
  rw [c2] at hw
  have hM : ∀ dm u u', rn L xs (dm + 11) 298 70 [.ref 123, u, u'] [] τ = bI (rn L xs (dm + 8 + 2) 303 0 [.ref 123, .int (i32 (4 : Nat))] [] (mM0 τ A fc (bP fc) (tV fc) (bS fc))) (fun a3 s2 => cond (pv_c1 .eq a3) (rn L xs (dm + 11) 298 165 [.ref 123, .int (i32 fc), dj (dj u')] [] s2) (bI (rn L xs (dm + 8 + 2) 303 0 [.ref 123, .int (i32 (28 : Nat))] [] s2) (fun a5 s4 => cond (pv_c1 .eq a5) (rn L xs (dm + 11) 298 165 [.ref 123, .int (i32 fc), dj (dj (dj u'))] [] s4) (bV (rn L xs (dm + 1 + 9) 308 0 [.ref 123, .int (i32 fc)] [] s4) (fun s6 => rn L xs (dm + 11) 298 165 [.ref 123, .int (i32 fc), dj (dj (dj (dj u')))] [] s6) X0)) X0)) X0 := fun dm u u' => by
    have e301 : rn L xs (dm + 10) 301 0 [.ref 123] [] (wr τ 123 28 (rd τ 123 27)) = some (.inl none, wr (wr (wr τ 123 28 (i32 fc)) 123 40 0) 123 43 0) := by
      rw [b3]; exact e301_0 (dm + 9) _
    have g17 : rd (wr (wr (wr τ 123 28 (i32 fc)) 123 40 0) 123 43 0) 123 17 = i32 A := by rw [rdne (by omega), rdne (by omega), rdne (by omega)]; exact s2
    have g46 : rd (wr (wr (wr τ 123 28 (i32 fc)) 123 40 0) 123 43 0) 123 46 = i32 (bP fc) := by rw [rdne (by omega), rdne (by omega), rdne (by omega)]; exact b4
    have g36 : rd (wr (wr (wr τ 123 28 (i32 fc)) 123 40 0) 123 43 0) 123 36 = i32 (tV fc) := by rw [rdne (by omega), rdne (by omega), rdne (by omega)]; exact b5
    have g42 : rd (wr (wr (wr τ 123 28 (i32 fc)) 123 40 0) 123 43 0) 123 42 = i32 (bS fc) := by rw [rdne (by omega), rdne (by omega), rdne (by omega)]; exact k4
    rw [e298_70 (dm + 10), bV_ok e301, b3, c_in (by omega) (by omega) (by omega), c_in (by omega) (by omega) (by omega), c_in (by omega) (by omega) (by omega), c_in (by omega) (by omega) (by omega), c_in (by omega) (by omega) (by omega), c_in (by omega) (by omega) (by omega), i32_ixn (by omega), g17, g46, g36, g42, i32_n1]
    rfl
  have m5 : rd (mM0 τ A fc (bP fc) (tV fc) (bS fc)) 123 5 = 0 := (mM0_oth (by omega) (by omega)).trans c3
  have m17 : rd (mM0 τ A fc (bP fc) (tV fc) (bS fc)) 123 17 = i32 A := (mM0_oth (by omega) (by omega)).trans s2
  have mL : LV m σ (mM0 τ A fc (bP fc) (tV fc) (bS fc)) := c1
  have mk := fun dm => mtake_ok (L := L) (xs := xs) mL s3 m17 (μ := 4) (by omega) m5 (dm + 8)
  rw [show mu (mM0 τ A fc (bP fc) (tV fc) (bS fc)) = μ from c2] at mk
  by_cases q1 : μ A = 4
  · have hA1 : A + 1 ≤ m := hlt A s3 (by omega)
    rw [if_pos q1] at hw
    have hw : rn L xs (d' + 4) 122 0 [.ref 62, .int 1] [] σ = _ := hw
    simp only [if_pos q1] at mk
    obtain ⟨x1, x2, x3, x4⟩ := cM0_at (σ := σ) (A := A) (fc := fc) (V := tV fc)
    have hC : rn L xs (d' + 2 + 3) 108 47 [.ref 62] [] σ = bV (rn L xs (d' + 4) 112 0 [.ref 62, .int (i32 (sgC 28))] [] (cM0 σ A fc (tV fc))) (fun s2 => bV (rn L xs (d' + 3 + 1) 118 0 [.ref 62, jv] [] (wr s2 62 5 (i32 (-1)))) (fun s3 => bI (rn L xs (d' + 4) 57 0 [.ref 6, .int (rd s3 62 3)] [] s3) (fun a5 s4 => cond (pv_c1 .eq a5) (rn L xs (d' + 2 + 3) 108 153 [.ref 62] [] s4) (bV (rn L xs (d' + 2 + 2) 111 0 [.ref 62, .int 2, .int (rd s4 62 3)] [] s4) (fun s6 => rn L xs (d' + 2 + 3) 108 153 [.ref 62] [] s6) X0)) X0) X0) X0 := by
      rw [e108_47 (d' + 4), bV_ok hw, rdne (show ¬ (62 = 62 ∧ 7 = 3) by omega), b1, c_in (by omega) (by omega) (by omega), c_in (by omega) (by omega) (by omega), c_in (by omega) (by omega) (by omega), c_in (by omega) (by omega) (by omega), i32_ixn (by omega), wr_self, show i32 ((A + 1 : Nat) : Int) - 1 = i32 (A : Int) from by rw [← i32_n1]; exact Int32.add_sub_cancel _ _, rdne (show ¬ (15 = 62 ∧ 19 = 3) by omega), k2]
      rfl
    have hL2 : LV m (cM0 σ A fc (tV fc)) (wr (mM0 τ A fc (bP fc) (tV fc) (bS fc)) 123 17 (i32 (A + 1 : Nat))) := (c1.congr (fun j hj i => by have := inL3 hj; exact cM0_oth (by omega) (by omega)) (fun i => by rw [cM0_rl, if_neg (by omega)]) (fun j hj i => by have := inL3 hj; rw [rdne (by omega)]; exact mM0_oth (by omega) (by omega))).1
    have hmb := fun dm => must_both (L := L) (xs := xs) (d := d') (dm := dm + 8) hL2 (show mu (wr (mM0 τ A fc (bP fc) (tV fc) (bS fc)) 123 17 (i32 (A + 1 : Nat))) = μ from c2) hA1 x1 (wr_self _ _ _ _) ((wr_nei (by omega)).trans m5) (show xnOK (cM0 σ A fc (tV fc)) = true from c4.xn) (show 20 ≤ 28 by omega) (by omega)
    by_cases q2 : μ (A + 1) = 28
    · obtain ⟨hA2, e3, _⟩ := (hmb 0).1 q2
      have e4 := fun dm => ((hmb dm).1 q2).2.2
      obtain ⟨hCO, hSL⟩ := hB.main hA2
      rw [bV_ok e3, rn118_6] at hC
      have hM2 : ∀ dm u u', rn L xs (dm + 11) 298 70 [.ref 123, u, u'] [] τ = bV (rn L xs (dm + 1 + 9) 308 0 [.ref 123, .int (i32 fc)] [] (wr (wr (mM0 τ A fc (bP fc) (tV fc) (bS fc)) 123 17 (i32 (A + 1 : Nat))) 123 17 (i32 (A + 1 + 1 : Nat)))) (fun s6 => rn L xs (dm + 11) 298 165 [.ref 123, .int (i32 fc), dj (dj (dj (dj u')))] [] s6) X0 := fun dm u u' => by
        rw [hM dm u u', bI_ok (mk dm), show pv_c1 .eq (1 : Int32) = false from rfl, cond_false, bI_ok (e4 dm), show pv_c1 .eq (1 : Int32) = false from rfl, cond_false]
      have hcal := hB.cal
      obtain ⟨hcB, ⟨_, _, _, h11, hF3, hPw⟩, _⟩ := hB
      have hlast : ∀ p, p < bP fc → ix (rd σ 18 p) < A := fun p hp => hcB.last (by omega) hp
      have hle := hT.le
      have hoC : ∀ j i, ¬ (j = 62 ∧ (i = 3 ∨ i = 5 ∨ i = 6)) → ¬ (43 ≤ j ∧ j ≤ 45 ∧ i = fc) → rd (wr (wr (wr (cM0 σ A fc (tV fc)) 62 3 (i32 (A + 1 + 1 : Nat))) 62 5 (i32 (-1))) 62 6 (i32 (-1))) j i = rd σ j i := fun j i h1 h2 => by
        rw [rdne (by omega), rdne (by omega), rdne (by omega)]; exact cM0_oth (by omega) h2
      have hoM : ∀ j i, ¬ (j = 123 ∧ (i = 17 ∨ i = 28 ∨ i = 40 ∨ i = 43)) → ¬ ((139 ≤ j ∧ j ≤ 144 ∧ j ≠ 142 ∨ j = 202) ∧ i = fc) → rd (wr (wr (mM0 τ A fc (bP fc) (tV fc) (bS fc)) 123 17 (i32 (A + 1 : Nat))) 123 17 (i32 (A + 1 + 1 : Nat))) j i = rd τ j i := fun j i h1 h2 => by
        rw [rdne (by omega), rdne (by omega)]; exact mM0_oth (by omega) h2
      have hrow : ∀ j, 43 ≤ j ∧ j ≤ 45 → rd (wr (wr (wr (cM0 σ A fc (tV fc)) 62 3 (i32 (A + 1 + 1 : Nat))) 62 5 (i32 (-1))) 62 6 (i32 (-1))) j fc = rd (cM0 σ A fc (tV fc)) j fc := fun j hj => by rw [rdne (by omega), rdne (by omega), rdne (by omega)]
      have hrowM : ∀ j, j ≠ 123 → ∀ i, rd (wr (wr (mM0 τ A fc (bP fc) (tV fc) (bS fc)) 123 17 (i32 (A + 1 : Nat))) 123 17 (i32 (A + 1 + 1 : Nat))) j i = rd (mM0 τ A fc (bP fc) (tV fc) (bS fc)) j i := fun j hj i => by rw [rdne (by omega), rdne (by omega)]
      have hws := wch_mono μ (show A ≤ A + 1 + 1 by omega)
      have hBO := body_ok (L := L) (xs := xs) (d := d' + 3) hCO hA2 (by rw [wr_nei (by omega), wr_nei (by omega), wr_self]) (wr_self _ _ _ _) ((hoC 62 11 (by omega) (by omega)).trans h11) (by omega) (by omega) (fun f hf hne => ⟨bP f, (hoC 46 f (by omega) (by omega)).trans (hT f hf).1.2.2.2.2.2.2.2.1, (hle (fc - f) f (by omega)).1⟩) (fun p f hp h3 hf h27 => by
          rw [hoC _ _ (by omega) (by omega)] at h3 h27 hf
          rw [b2, i32_ixn (by omega)] at hf
          omega) hSL (by omega)
      have hrl : ∀ j i, ¬ (j = 42 ∧ i = fc) → rl (wr (wr (wr (cM0 σ A fc (tV fc)) 62 3 (i32 (A + 1 + 1 : Nat))) 62 5 (i32 (-1))) 62 6 (i32 (-1))) j i = rl σ j i := fun j i h1 => by
        show rl (cM0 σ A fc (tV fc)) j i = _
        rw [cM0_rl, if_neg h1]
      have hlx : LXP fc 0 (bP fc) (wr (wr (wr (cM0 σ A fc (tV fc)) 62 3 (i32 (A + 1 + 1 : Nat))) 62 5 (i32 (-1))) 62 6 (i32 (-1))) := ⟨fun p hp => by rw [hoC 18 p (by omega) (by omega), (hrow 43 (by omega)).trans x2, i32_ixn (by omega)]; exact hlast p hp, .inl rfl⟩
      generalize wr (wr (wr (cM0 σ A fc (tV fc)) 62 3 (i32 (A + 1 + 1 : Nat))) 62 5 (i32 (-1))) 62 6 (i32 (-1)) = σb at hC hCO hoC hrow hBO hrl hlx
      generalize wr (wr (mM0 τ A fc (bP fc) (tV fc) (bS fc)) 123 17 (i32 (A + 1 : Nat))) 123 17 (i32 (A + 1 + 1 : Nat)) = τb at hCO hSL hoM hrowM hM2 hBO
      rcases hBO with ⟨σ3, τ3, A', P', F', f1, f2, f3, ⟨g1, g2, g3, g4, g5, g6, g7, g8⟩, ⟨i1, i2, i3, i4, i5⟩, ⟨j1, j2, j3, j4⟩, j5, n1, n2, n3, n4, n5, n6, n7, n8, n9, n10, n11, n12, n13⟩ | hfl
      · rw [bV_ok f1] at hC
        obtain ⟨z1, z2, z3, z4, ⟨z5, z5'⟩, z6⟩ := f3.lv
        obtain ⟨V', S', u5, u7, h42', u8, k10, k6, hFR, hFE⟩ := body_tab (k := 0) (V0 := tV fc) (S0 := bS fc) hCO f3 hA2 g2 (by omega) g8 g6 g7 ((hoC 15 19 (by omega) (by omega)).trans k2) (by omega) ((hoM 123 42 (by omega) (by omega)).trans k4) (by omega) (by rw [(hrow 43 (by omega)).trans x2, i32_ixn (by omega)]; omega) hlx ((hrowM 143 (by omega) fc).trans y6) ((hrowM 144 (by omega) fc).trans y7) ((hrowM 202 (by omega) fc).trans y9) i2 i4 i5 ⟨j1, j2, j3, j4⟩ j5 n1 n2 n3 n4 n5 n6 n7 n8 n9 n10 n11 n12 n13
        have e57 : rn L xs (d' + 4) 57 0 [.ref 6, .int (rd σ3 62 3)] [] σ3 = some (.inl (some (.int (rd σ3 10 A'))), σ3) := by
          rw [g3, e57_0, c_in (by omega) (by omega) (by omega), i32_ixn (by omega)]
        rw [bI_ok e57, ck_end z1 g2, z2] at hC
        have mt := fun dm => mtake_ok (L := L) (xs := xs) z1 g2 g4 (μ := 36) (by omega) z3 (dm + 8)
        rw [z2] at mt
        have hM3 : ∀ dm u u', rn L xs (dm + 11) 298 70 [.ref 123, u, u'] [] τ = bI (rn L xs (dm + 8 + 2) 303 0 [.ref 123, .int (i32 (36 : Nat))] [] τ3) (fun a2 s1 => rn L xs (dm + 11) 298 179 [.ref 123, .int (i32 fc), .int a2] [] s1) X0 := fun dm u u' => by
          rw [hM2 dm u u', bV_ok (f2 (dm + 1)), e298_165 (dm + 10), z3, show pv_c1 .ne (0 : Int32) = false from rfl, cond_false]; rfl
        by_cases q3 : μ A' = 36
        · simp only [if_pos q3] at mt
          rw [decide_eq_true q3, cond_true] at hC
          have h50 : rd (wr τ3 123 17 (i32 (A' + 1 : Nat))) 123 5 = 0 := (wr_nei (by omega)).trans z3
          have hoE : ∀ j i, ¬ ((j = 143 ∨ j = 144 ∨ j = 202) ∧ i = fc + 1) → ¬ (j = 123 ∧ i = 17) → rd (mEd (wr τ3 123 17 (i32 (A' + 1 : Nat))) fc) j i = rd τ3 j i := fun j i h1 h2 => by rw [mEd_oth h1, rdne h2]
          have hM4 : ∀ dm u u', rn L xs (dm + 11) 298 70 [.ref 123, u, u'] [] τ = bV (rn L xs (dm + 10) 330 0 [.ref 123, jv, jv, jv] [] (mEd (wr τ3 123 17 (i32 (A' + 1 : Nat))) fc)) (fun t => some (.inl none, t)) X0 := fun dm u u' => by
            rw [hM3 dm u u', bI_ok (mt dm), m179 b6, h50, show pv_c1 .ne (0 : Int32) = false from rfl, cond_false]
          have r143 : rd (mEd (wr τ3 123 17 (i32 (A' + 1 : Nat))) fc) 143 (fc + 1) = i32 P' := by
            unfold mEd
            rw [rdne (by omega), rdne (by omega), wr_self, rdne (by omega)]; exact z5'
          have r144 : rd (mEd (wr τ3 123 17 (i32 (A' + 1 : Nat))) fc) 144 (fc + 1) = rd τ3 123 36 := by
            unfold mEd
            rw [rdne (by omega), wr_self, rdne (by omega)]
          have r202 : rd (mEd (wr τ3 123 17 (i32 (A' + 1 : Nat))) fc) 202 (fc + 1) = i32 (S' + 1 : Nat) := by
            unfold mEd
            rw [wr_self, rdne (by omega), h42', i32_n1]
          generalize mEd (wr τ3 123 17 (i32 (A' + 1 : Nat))) fc = τ4 at hM4 hoE r143 r144 r202
          obtain ⟨V2, S2, p0, v5, v7, v8, _, v6, hFN, _⟩ := f3.scS
          have hw2 := z1.2.2.2.2.2.2.1 A' g2
          rw [z2] at hw2
          have hws2 := wch_mono μ g2
          have hED : FR2 (fc + 1) P' V' S' σ3 τ3 σ3 τ4 := ⟨fun _ _ _ _ _ => rfl, fun j i h1 h2 => hoE j i (by omega) (by omega), fun p _ => ⟨fun _ _ => rfl, hoE _ _ (by omega) (by omega)⟩, fun s _ j hj => hoE _ _ (by omega) (by omega), fun v _ => ⟨rfl, rfl, rfl⟩, fun _ _ _ _ => rfl⟩
          have hF0 : FR2 fc (bP fc) (tV fc) (bS fc) σ τ σb τb := ⟨fun j i h1 h2 h3 => hoC j i (by omega) (by omega), fun j i h1 h2 => hoM j i (by omega) (by omega), fun p hp => ⟨fun j hj => hoC j p (by omega) (by omega), hoM _ _ (by omega) (by omega)⟩, fun s hs j hj => hoM _ _ (by omega) (by omega), fun v hv => ⟨hoC _ _ (by omega) (by omega), hoC _ _ (by omega) (by omega), hoC _ _ (by omega) (by omega)⟩, fun j i h1 h2 => hrl j i h2⟩
          have hFs : FR2 fc (bP fc) (tV fc) (bS fc) σ τ σ3 τ3 := hF0.trans hFR (Nat.le_refl _) (Nat.le_refl _) (Nat.le_refl _)
          have hrowF : FRh m σ3 τ3 fc 0 (bP fc) (tV fc) (bF fc) (bS fc) := ⟨⟨A, by omega, (n1 43 fc (by omega) (by omega) (by omega)).trans ((hrow 43 (by omega)).trans x2), (n2 139 fc (by omega) (by omega)).trans ((hrowM 139 (by omega) fc).trans y4)⟩, (n1 44 fc (by omega) (by omega) (by omega)).trans ((hrow 44 (by omega)).trans x3), (n2 140 fc (by omega) (by omega)).trans ((hrowM 140 (by omega) fc).trans y5), by omega, (n1 45 fc (by omega) (by omega) (by omega)).trans ((hrow 45 (by omega)).trans x4), (n2 141 fc (by omega) (by omega)).trans ((hrowM 141 (by omega) fc).trans y8), (n2 144 fc (by omega) (by omega)).trans ((hrowM 144 (by omega) fc).trans y7), i1, (n2 143 fc (by omega) (by omega)).trans ((hrowM 143 (by omega) fc).trans y6), i3, (n2 202 fc (by omega) (by omega)).trans ((hrowM 202 (by omega) fc).trans y9)⟩
          have hmu : mu τ4 = mu τ3 := by funext j; unfold mu; rw [hoE 126 j (by omega) (by omega)]
          have hVe : rd τ3 123 36 = i32 V' := by rw [v6, ← v5, u5]
          have hcf : CORE K1 K2 m μ fc fc [] [] F' m P' 0 σ3 τ4 := f3.gen g2 (by omega) (fun _ _ _ _ _ _ _ => rfl) (fun j i h1 h2 h3 h4 => hoE j i (by omega) (fun q => by rw [q.1, q.2] at h4; cases h4)) (fun _ _ _ => rfl) rfl (FNC.congr hFN hmu rfl rfl (fun _ => rfl) (fun _ => rfl) (fun _ => rfl) (fun i hi => hoE _ _ (by omega) (by omega)) (fun j hj i => by have := inL3 hj; exact hoE _ _ (by omega) (by omega))) (Nat.le_refl _) (fun _ _ _ _ _ _ => ⟨rfl, rfl⟩)
          refine Or.inl ⟨fun i => if i = fc then 0 else bk i, fun i => if i = fc + 1 then P' else bP i, fun i => if i = fc + 1 then V' else tV i, fun i => if i = fc + 1 then F' else bF i, fun i => if i = fc + 1 then S' else bS i, σ3, τ4, hC, hM4, ?_⟩
          unfold PRG0
          simp only [if_pos]
          refine ⟨hcf, fun f hf => ?_, ⟨?_, ?_, ?_, ?_⟩, ⟨r143, r144.trans hVe, r202⟩, u5, (hoE _ _ (by omega) (by omega)).trans h42', ⟨trivial, fun f hf => by rw [if_neg (by omega)]; exact t5' f hf⟩, by omega, by omega, by omega, by omega⟩
          · by_cases e : f = fc
            · rw [e]
              simp only [if_pos, if_neg (show fc ≠ fc + 1 by omega)]
              exact ⟨hrowF.stay hED (by omega), hFE.stay hED (by omega) (Nat.le_refl _) (Nat.le_refl _) (Nat.le_refl _)⟩
            · simp only [if_neg e, if_neg (show f ≠ fc + 1 by omega), if_neg (show f + 1 ≠ fc + 1 by omega)]
              obtain ⟨l1, l2, l3⟩ := hle (fc - (f + 1)) (f + 1) (by omega)
              exact ⟨((hT f (by omega)).1.stay hFs e).stay hED (by omega), ((hT f (by omega)).2.stay hFs e l1 l2 l3).stay hED (by omega) (by omega) (by omega) (by omega)⟩
          · show (if 0 = fc + 1 then P' else bP 0) = 0
            rw [if_neg (by omega)]; exact t1
          · show (if 0 = fc + 1 then V' else tV 0) = 0
            rw [if_neg (by omega)]; exact t2
          · show (if 0 = fc + 1 then F' else bF 0) = 0
            rw [if_neg (by omega)]; exact t3
          · show (if 0 = fc + 1 then S' else bS 0) = 0
            rw [if_neg (by omega)]; exact t4
        · right
          intro dm u u'
          simp only [if_neg q3] at mt
          rw [decide_eq_false q3, cond_false, g3, bV_ex (cfail_ok z1 g2 z4.xn (d' + 2) 2)] at hC
          have h52 : rd (mFlt τ3 2 (rd τ3 127 A')) 123 5 = 2 := (wr_nei (by omega)).trans (wr_self _ _ _ _)
          refine ⟨σ3, _, 2, rd σ3 13 A', hC, z4, by rw [hM3 dm u u', bI_ok (mt dm), m179 b6, h52, show pv_c1 .ne (2 : Int32) = true from rfl, cond_true], by rw [mEd_oth (by omega)]; exact h52, ?_, by decide⟩
          rw [mEd_oth (by omega)]
          exact (wr_self _ _ _ _).trans (z1.2.1 A' g2).2.1.symm
      · right
        intro dm u u'
        obtain ⟨σ0, τ', kk, p, v1, v2, v3, v4, v5, v6⟩ := hfl (dm + 1)
        exact ⟨σ0, _, kk, p, by rw [hC, bV_ex v1]; rfl, v2, by rw [hM2 dm u u', bV_ok v3, m165f b6 (by rw [v4]; exact v6)], by rw [mEd_oth (by omega)]; exact v4, by rw [mEd_oth (by omega)]; exact v5, v6⟩
    · right
      intro dm u u'
      obtain ⟨e3, _, _, _⟩ := (hmb 0).2 q2
      obtain ⟨_, e4, e5, e6⟩ := (hmb dm).2 q2
      exact ⟨cM0 σ A fc (tV fc), _, _, _, by rw [hC, bV_ex e3]; rfl, c4, by rw [hM dm u u', bI_ok (mk dm), show pv_c1 .eq (1 : Int32) = false from rfl, cond_false, bI_ok e4, show pv_c1 .eq (0 : Int32) = true from rfl, cond_true, m165f b6 (by rw [e5]; rfl)], by rw [mEd_oth (by omega)]; exact e5, by rw [mEd_oth (by omega)]; exact e6, by decide⟩
  · right
    intro dm u u'
    rw [if_neg q1] at hw
    have hw : rn L xs (d' + 4) 122 0 [.ref 62, .int 1] [] σ = _ := hw
    have e2 := mk dm
    rw [if_neg q1] at e2
    have z5 : rd (mFlt (mM0 τ A fc (bP fc) (tV fc) (bS fc)) 2 (rd (mM0 τ A fc (bP fc) (tV fc) (bS fc)) 127 A)) 123 5 = 2 := (wr_nei (by omega)).trans (wr_self _ _ _ _)
    refine ⟨σ, _, 2, rd σ 13 A, by rw [e108_47 (d' + 4), bV_ex hw]; rfl, c4, by rw [hM dm u u', bI_ok e2, show pv_c1 .eq (0 : Int32) = true from rfl, cond_true, m165f b6 (by rw [z5]; rfl)], ?_, ?_, by decide⟩
    · rw [mEd_oth (by omega)]; exact z5
    · rw [mEd_oth (by omega)]
      exact (wr_self _ _ _ _).trans (c1.2.1 A s3).2.1.symm
end MAINOK
