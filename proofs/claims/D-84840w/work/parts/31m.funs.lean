/-! READING: all functions, both -/
section FUNSLOOP
variable {L : Nat} {xs : Nat → Int32} {K1 K2 m : Nat} {μ : Nat → Nat} {g fc : Nat} {sc : List Nat} {fs fs' : List (Nat × Nat × List Nat)} {F D H n A P r r0 V S : Nat} {σ τ σ' τ' σ1 τ1 σ'' τ'' : tvS} {bk bP tV bF bS : Nat → Nat}
theorem BST.fx (h : BST K1 K2 m μ fc F P V S A σ τ) : LV m σ τ ∧ mu τ = μ ∧ rd τ 123 5 = 0 ∧ roomC K1 K2 σ ∧ (rd σ 62 7 = i32 fc ∧ rd σ 15 38 = i32 fc ∧ rd τ 123 27 = i32 fc ∧ rd τ 123 46 = i32 P ∧ rd τ 123 36 = i32 V) ∧ fc ≤ 20 ∧ rd σ 62 3 = i32 A ∧ rd τ 123 17 = i32 A ∧ A ≤ m := by
  obtain ⟨hc, ⟨s1, s2, s3, s4, s5, s6⟩, ⟨k2, k3, k4, k5⟩⟩ := h
  obtain ⟨c1, c2, c3, c4, ⟨c5, c5'⟩, c6⟩ := hc.lv
  obtain ⟨V', S', q0, a5, a7, a8, hm, a6, ⟨b1, b2, b3, b4, b5, b6, b7⟩, a14⟩ := hc.scS
  rw [rdne (by omega), rdne (by omega), rdne (by omega)] at c3
  rw [rdne (by omega), rdne (by omega)] at b1
  rw [rdne (by omega), rdne (by omega)] at b4
  rw [rdne (by omega), rdne (by omega), rdne (by omega)] at b5
  rw [rdne (by omega), rdne (by omega), rdne (by omega)] at c5'
  rw [rdne (by omega), rdne (by omega), rdne (by omega)] at a6
  rw [rdne (by omega), rdne (by omega)] at a5
  exact ⟨c1, c2, c3, c4, ⟨b1, b4, b5, c5', by rw [a6, ← a5, k2]⟩, b3, s1, s2, s3⟩
theorem funs_loop {d : Nat} (hd : 520 ≤ d) : ∀ (N fc A : Nat) (bk bP tV bF bS : Nat → Nat) (σ τ : tvS), m - A < N → BT K1 K2 m μ fc bk bP tV bF bS A σ τ →
    (∃ (fc' A' : Nat) (bk' bP' tV' bF' bS' : Nat → Nat) (σ' τ' : tvS), BT K1 K2 m μ fc' bk' bP' tV' bF' bS' A' σ' τ' ∧ μ A' ≠ 3 ∧ rn L xs (d + 3) 108 22 [.ref 62] [] σ = rn L xs (d + 3) 108 47 [.ref 62] [] σ' ∧ ∀ dm v v', ∃ u u', rn L xs (dm + 11) 298 30 [.ref 123, v, v'] [] τ = rn L xs (dm + 11) 298 70 [.ref 123, u, u'] [] τ') ∨
    ∀ dm v v', FLB K1 K2 (rn L xs (d + 3) 108 22 [.ref 62] [] σ) (rn L xs (dm + 11) 298 30 [.ref 123, v, v'] [] τ) := by
  intro N
  induction N with
  | zero => intro fc A bk bP tV bF bS σ τ h; omega
  | succ N ih =>
    intro fc A bk bP tV bF bS σ τ hN h
    obtain ⟨c1, c2, c3, c4, ⟨b1, b2, b3, b4, b5⟩, b6, s1, s2, s3⟩ := h.1.fx
    have hm := c1.1
    have hμ36 := (c1.2.1 A s3).2.2
    rw [c2] at hμ36
    have ew : rn L xs (d + 2) 109 0 [.ref 62, .int 0] [] σ = some (.inl (some (.int (bN (decide (μ A = 3))))), σ) := by
      have := rword_ok (L := L) (xs := xs) c1 s3 s1 (w := 0) (by omega) d
      rw [c2] at this
      exact this
    have ek := fun dm => mkind_ok (L := L) (xs := xs) c1 s3 s2 (dm + 9)
    rw [c2] at ek
    have hC : rn L xs (d + 3) 108 22 [.ref 62] [] σ = if μ A = 3 then bV (rn L xs (d + 2) 110 0 [.ref 62, jv, jv, jv] [] σ) (fun s3 => rn L xs (d + 3) 108 22 [.ref 62] [] (wr s3 62 7 (rd s3 62 7 + 1))) X0 else rn L xs (d + 3) 108 47 [.ref 62] [] σ := by
      rw [e108_22 (d + 2), bI_ok ew, c1_eq_bN]
      by_cases q : μ A = 3
      · rw [decide_eq_true q, cond_true, if_pos q]
      · rw [decide_eq_false q, cond_false, if_neg q]
    have hM : ∀ dm v v', rn L xs (dm + 11) 298 30 [.ref 123, v, v'] [] τ = if μ A = 3 then bV (rn L xs (dm + 10) 300 0 [.ref 123, jv, jv, jv] [] (wr τ 123 17 (i32 (A + 1 : Nat)))) (fun s3 => rn L xs (dm + 11) 298 30 [.ref 123, dj (dj v), dj (dj v')] [] s3) X0 else rn L xs (dm + 11) 298 70 [.ref 123, dj v, dj v'] [] τ := fun dm v v' => by
      rw [e298_30 (dm + 10), c3, show pv_c1 .ne (0 : Int32) = false from rfl, cond_false, bI_ok (ek dm), show (3 : Int32) = i32 ((3 : Nat) : Int) from rfl, mcondn (y := 3) rfl (by omega) (by omega), s2, i32_n1]
      by_cases q : μ A = 3
      · rw [if_pos q, if_pos q]
      · rw [if_neg q, if_neg q, e298_62 (dm + 10), c3, show pv_c1 .le (0 : Int32) = true from rfl, cond_true]
    by_cases q : μ A = 3
    · simp only [if_pos q] at hC hM
      rcases fun_ok' (L := L) (xs := xs) h q hd with ⟨bk', bP', tV', bF', bS', A', σ', τ', e1, e2, e3, e4, e5⟩ | hfl
      · rw [bV_ok e1, e5, i32_n1] at hC
        have hM2 : ∀ dm v v', rn L xs (dm + 11) 298 30 [.ref 123, v, v'] [] τ = rn L xs (dm + 11) 298 30 [.ref 123, dj (dj v), dj (dj v')] [] τ' := fun dm v v' => by rw [hM dm v v', bV_ok (e2 dm)]
        have hA' := e3.1.2.1.2.2.1
        rcases ih (fc + 1) A' bk' bP' tV' bF' bS' _ τ' (by omega) e3 with ⟨fc2, A2, k2, p2, v2, f2, q2, σ2, τ2, g1, g2, g3, g4⟩ | hfl
        · exact Or.inl ⟨fc2, A2, k2, p2, v2, f2, q2, σ2, τ2, g1, g2, hC.trans g3, fun dm v v' => by rw [hM2 dm v v']; exact g4 dm _ _⟩
        · right
          intro dm v v'
          rw [hC, hM2 dm v v']
          exact hfl dm _ _
      · right
        intro dm v v'
        obtain ⟨σ0, τ', kk, p, y1, y2, y3, y4, y5, y6⟩ := hfl dm
        refine ⟨σ0, τ', kk, p, by rw [hC, bV_ex y1]; rfl, y2, ?_, y4, y5, y6⟩
        rw [hM dm v v', bV_ok y3, e298_30 (dm + 10), y4, c1_nz0 y6, cond_true, e298_62 (dm + 10), y4, y6, cond_false]
    · simp only [if_neg q] at hC hM
      exact Or.inl ⟨fc, A, bk, bP, tV, bF, bS, σ, τ, h, q, hC, fun dm v v' => ⟨_, _, hM dm v v'⟩⟩
end FUNSLOOP
