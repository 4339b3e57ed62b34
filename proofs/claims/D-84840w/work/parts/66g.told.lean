/-! WHAT IS TOLD of a run: state, counts -/
/-- both tell the same -/
def TLD (σ τ : tvS) : Prop := ∃ nr : Nat, nr ≤ 2000 ∧ rd σ 103 19 = i32 (nr : Int) ∧ rd σ 117 5 = rd τ 123 122 ∧
  (rd τ 123 122 = 0 → nr = 0 ∧ rd σ 117 6 = 0 ∧ rd σ 103 21 = 0 ∧ rd σ 103 22 = 0 ∧ rd σ 103 23 = 0 ∧ rd σ 103 9 = 0 ∧ rd σ 103 10 = 0 ∧ rd σ 103 20 = 0 ∧ rd σ 117 17 = 0 ∧ rd σ 100 2 = 0) ∧
  (rd τ 123 122 ≠ 0 → (rd τ 123 144 = i32 (nr : Int) ∧ rd σ 117 6 = rd τ 123 123 ∧ rd σ 103 21 = rd τ 123 124 ∧ rd σ 103 22 = rd τ 123 125 ∧ rd σ 103 23 = rd τ 123 126 ∧ rd σ 103 9 = rd τ 123 127 ∧ rd σ 103 10 = rd τ 123 128 ∧ rd σ 103 20 = rd τ 123 129 ∧ rd σ 117 17 = rd τ 123 131 ∧ rd σ 100 2 = rd τ 123 132 ∧ rd τ 123 130 = 0) ∧
    ∀ r, r < nr → rd σ 108 r = rd τ 216 r ∧ rd σ 109 r = rd τ 217 r ∧ rd σ 113 r = rd τ 219 r ∧ rd σ 114 r = rd τ 220 r ∧ rd σ 112 r = rd τ 221 r)
def t423 (κ : Nat) : Nat := [76, 81, 86, 91, 96, 101, 106, 111, 116, 121].getD κ 0
theorem sw423 : ∀ κ : Nat, κ < 10 → ((insP 423 27).bind fun q => tv_sw q.1 27 (i32 κ)) = some (t423 κ) := by
  have h : ((List.range 10).all fun κ => ((insP 423 27).bind fun q => tv_sw q.1 27 (i32 κ)) == some (t423 κ)) = true := by decide +kernel
  intro κ hκ
  exact eq_of_beq (List.all_eq_true.mp h κ (List.mem_range.mpr hκ))
def t229 (κ : Nat) : Nat := [0, 40, 45, 50, 55, 60, 65, 70].getD κ 0
theorem sw229 : ∀ κ : Nat, κ < 8 → 1 ≤ κ → ((insP 229 1).bind fun q => tv_sw q.1 1 (i32 κ)) = some (t229 κ) := by
  have h : ((List.range 8).all fun κ => Nat.blt κ 1 || (((insP 229 1).bind fun q => tv_sw q.1 1 (i32 κ)) == some (t229 κ))) = true := by decide +kernel
  intro κ hκ h8
  have h1 := List.all_eq_true.mp h κ (List.mem_range.mpr hκ)
  have h2 : Nat.blt κ 1 = false := by
    cases e : Nat.blt κ 1 with
    | false => rfl
    | true => have : κ + 1 ≤ 1 := Nat.le_of_ble_eq_true e; omega
  rw [h2, Bool.false_or] at h1
  exact eq_of_beq h1
section TOLD
variable {L : Nat} {xs : Nat → Int32} {σ τ : tvS} {D : pgD} {m : Nat} {rg : rgD} {cd : cdD} {T : tsD} {vd W : Nat → Nat} {M wd pgs ev N : Nat} {G : tG} {rr : Nat → Nat} {R : Nat → Int32} {cs st c M0 : Nat}
theorem THR.told (h : THR D rg cd T vd W M N G rr R cs wd pgs ev M0 st c σ τ) (hc : c = 1 ∨ c = 2) : TLD σ τ := by
  obtain ⟨X, K, i, E, n, ty, nr, av, Lv, dd, fn, s, oa, fil, mt, pl, pg, fl, bk, a, hG, ⟨h2, h3, h4, h5, h6⟩, ⟨h7, h8, h9, h10, h11, h12⟩, h14, h15⟩ := h
  obtain ⟨m1, m2, ⟨⟨r1, r2, r3⟩, k1, k2, k3, k4, k5, k6, k7, k8⟩, m4, _⟩ := h5
  obtain ⟨⟨z1, z2, z3, z4, z5, z6, z7, z8⟩, _, z9, _⟩ := h8.1
  obtain ⟨y1, y2, y3, y4, y5, y6, y7⟩ := h10
  rw [wr_nek (by decide)] at y2 y4
  rw [wr_nei (by decide)] at y6
  have k2 : rd τ 123 123 = i32 (st : Int) := k2
  refine ⟨nr, r2, z6, by rw [h11, h6], fun e => ?_, fun _ => ⟨⟨r1, by rw [y6, k2], by rw [y4, m2.1], by rw [z7, k3], by rw [z8, k4], by rw [z4, k5], by rw [z5, k6], by rw [y2, k7.1], by rw [h9.1.2.2.2.1, h4.2.1], by rw [h8.2.1.1, m1.1], k8⟩, fun r hr => ?_⟩⟩
  · rw [h6] at e
    rcases hc with q | q <;> rw [q] at e <;> exact absurd e (by decide)
  · obtain ⟨a1, a2, _, a4, a5, a6⟩ := r3 r hr
    obtain ⟨b1, b2, b3, b4, _⟩ := z9 r hr
    have b5 := y1 r hr
    rw [wr_nek (by decide), wr_nek (by decide)] at b5
    exact ⟨by rw [b5.1, a1], by rw [b5.2, a2], by rw [b3, a4], by rw [b4, a5], by rw [b2, a6]⟩
theorem OVR.told (h : OVR D rg cd vd N G rr R cs wd pgs ev M0 st σ τ) : TLD σ τ := by
  obtain ⟨c, s, B, no, mt, hc, ⟨⟨f1, f2, f3, f4⟩, ⟨v1, v2, v3, v4, v5⟩, w1, w2, w3, w4, w5, w6, w7⟩, _, _, ⟨⟨q1, q2, q3, q4, q5, q6, q7⟩, q8, q9, q10, q11, q12, q13, q14⟩, _⟩ := h
  refine ⟨0, Nat.zero_le _, by rw [f4]; rfl, by rw [v1, q1], fun e => ?_, fun _ => ⟨⟨by rw [q13]; rfl, by rw [v2, q2], by rw [w5, q3], by rw [w6, q4], by rw [w7, q5], by rw [f3, q6], by rw [w3, q7], by rw [w4, q8], by rw [v4, q10], by rw [v5, q11], q9⟩, fun r hr => absurd hr (Nat.not_lt_zero r)⟩⟩
  rw [q1] at e
  have := (i32_inj (a := (c : Int)) (b := 0) (by omega) (by omega) (by omega) (by omega)).mp e
  omega
/-- the state -/
theorem state_op (h : TLD σ σ) (d : Nat) : rn L xs (d + 2) 15 0 [.ref 0] [] σ = some (.inl (some (.int (rd σ 123 122))), σ) ∧ rn L xs (d + 2) 422 0 [.ref 123] [] σ = some (.inl (some (.int (rd σ 123 122))), wr σ 123 0 0) := by
  obtain ⟨nr, _, _, h1, _⟩ := h
  have p1 : rn L xs (d + 1) 254 0 [.ref 117] [] σ = some (.inl (some (.int (rd σ 123 122))), σ) := by rw [e254_0, h1]
  exact ⟨by rw [e15_0 (d + 1), bI_ok p1], by rw [e422_0]⟩
/-- strays: none -/
theorem strays_op (h : TLD σ σ) (d : Nat) : rn L xs (d + 2) 18 0 [.ref 0] [] σ = some (.inl (some (.int 0)), σ) ∧ rn L xs (d + 2) 425 0 [.ref 123] [] σ = some (.inl (some (.int 0)), wr σ 123 0 0) := by
  obtain ⟨nr, _, _, h1, h2, h3⟩ := h
  refine ⟨by rw [e18_0], ?_⟩
  by_cases c : rd σ 123 122 = 0
  · rw [e425_0, show pv_c1 .ne (rd σ 123 122) = false from decide_eq_false (not_not_intro c), cond_false, e425_20]
  · have := (h3 c).1.2.2.2.2.2.2.2.2.2.2
    rw [e425_0, show pv_c1 .ne (rd σ 123 122) = true from decide_eq_true c, cond_true, e425_16, e425_20, wr_nei (by decide), this]
/-- counts -/
theorem count_op (h : TLD σ σ) (x : Int32) (d : Nat) : ∃ y, rn L xs (d + 3) 16 0 [.ref 0, .int x] [] σ = some (.inl (some (.int y)), σ) ∧ rn L xs (d + 3) 423 0 [.ref 123, .int x] [] σ = some (.inl (some (.int y)), wr σ 123 0 0) := by
  obtain ⟨nr, _, h19, h1, h2, h3⟩ := h
  have top : ∀ y, rn L xs (d + 2) 255 0 [.ref 117, .int x] [] σ = some (.inl (some (.int y)), σ) → rn L xs (d + 3) 16 0 [.ref 0, .int x] [] σ = some (.inl (some (.int y)), σ) := fun y p => by rw [e16_0 (d + 2), bI_ok p]
  by_cases c : x.toInt < 0 ∨ 9 < x.toInt
  · refine ⟨i32 (-1), top _ ?_, ?_⟩
    · rw [e255_0, c1_ltx]
      by_cases c2 : x.toInt < 0
      · rw [c_t c2, e255_10, i32_raw]
      · rw [c_f c2, show (9 : Int32) = i32 9 from rfl, c2_lex, i32_ti (by omega) (by omega), c_f (by omega), e255_10, i32_raw]
    · rw [e423_0, c1_ltx]
      by_cases c2 : x.toInt < 0
      · rw [c_t c2, e423_15, i32_raw]
      · rw [c_f c2, show (9 : Int32) = i32 9 from rfl, c2_lex, i32_ti (by omega) (by omega), c_f (by omega), e423_15, i32_raw]
  · obtain ⟨κ, hκ, ex⟩ : ∃ κ : Nat, κ < 10 ∧ x = i32 (κ : Int) := ⟨x.toInt.toNat, by omega, by rw [Int.toNat_of_nonneg (by omega), i32_of]⟩
    subst ex
    have hc : rn L xs (d + 2) 255 0 [.ref 117, .int (i32 (κ : Int))] [] σ = rn L xs (d + 2) 255 12 [.ref 117, .int (i32 (κ : Int))] [] σ := by
      rw [e255_0, c1_lt (by omega) (by omega), c_f (by omega), show (9 : Int32) = i32 9 from rfl, c2_le (by omega) (by omega) (by omega) (by omega), c_t (by omega)]
    have hm : rn L xs (d + 3) 423 0 [.ref 123, .int (i32 (κ : Int))] [] σ = rn L xs (d + 3) 423 17 [.ref 123, .int (i32 (κ : Int))] [] (wr σ 123 0 0) := by
      rw [e423_0, c1_lt (by omega) (by omega), c_f (by omega), show (9 : Int32) = i32 9 from rfl, c2_le (by omega) (by omega) (by omega) (by omega), c_t (by omega)]
    have hcv : ∀ y, (κ = 0 → y = rd σ 117 6) → (κ = 1 → y = rd σ 103 21) → (κ = 2 → y = rd σ 103 22) → (κ = 3 → y = rd σ 103 23) → (κ = 4 → y = rd σ 103 9) → (κ = 5 → y = rd σ 103 10) → (κ = 6 → y = rd σ 103 19) → (κ = 7 → y = rd σ 103 20) → (κ = 8 → y = rd σ 117 17) → (κ = 9 → y = rd σ 100 2) → rn L xs (d + 2) 255 12 [.ref 117, .int (i32 (κ : Int))] [] σ = some (.inl (some (.int y)), σ) := by
      intro y y0 y1 y2 y3 y4 y5 y6 y7 y8 y9
      rw [e255_12, c1_ne (by omega) (by omega)]
      by_cases k0 : κ = 0
      · rw [c_f (by omega), y0 k0]
      · rw [c_t (by omega), e255_21, show (8 : Int32) = i32 8 from rfl, c2_ne (by omega) (by omega) (by omega) (by omega)]
        by_cases k8 : κ = 8
        · rw [c_f (by omega), e255_58, y8 k8]
        · rw [c_t (by omega), e255_34, show (9 : Int32) = i32 9 from rfl, c2_ne (by omega) (by omega) (by omega) (by omega)]
          by_cases k9 : κ = 9
          · have p : rn L xs (d + 1) 217 0 [.ref 100] [] σ = some (.inl (some (.int (rd σ 100 2))), σ) := by rw [e217_0]
            rw [c_f (by omega), bI_ok p, e255_58, y9 k9]
          · have p : rn L xs (d + 1) 229 0 [.ref 103, .int (i32 (κ : Int))] [] σ = some (.inl (some (.int y)), σ) := by
              rw [e229_0, swk_of (sw229 κ (by omega) (by omega))]
              have hk : κ = 1 ∨ κ = 2 ∨ κ = 3 ∨ κ = 4 ∨ κ = 5 ∨ κ = 6 ∨ κ = 7 := by omega
              rcases hk with k | k | k | k | k | k | k
              · rw [y1 k, k]; exact e229_40 _ _ _
              · rw [y2 k, k]; exact e229_45 _ _ _
              · rw [y3 k, k]; exact e229_50 _ _ _
              · rw [y4 k, k]; exact e229_55 _ _ _
              · rw [y5 k, k]; exact e229_60 _ _ _
              · rw [y6 k, k]; exact e229_65 _ _ _
              · rw [y7 k, k]; exact e229_70 _ _ _
            rw [c_t (by omega), e255_50 (d + 1), bI_ok p, e255_58]
    by_cases c0 : rd σ 123 122 = 0
    · obtain ⟨n0, g1, g2, g3, g4, g5, g6, g7, g8, g9⟩ := h2 c0
      refine ⟨0, top _ (by rw [hc]; exact hcv 0 (fun _ => g1.symm) (fun _ => g2.symm) (fun _ => g3.symm) (fun _ => g4.symm) (fun _ => g5.symm) (fun _ => g6.symm) (fun _ => by rw [h19, n0]; rfl) (fun _ => g7.symm) (fun _ => g8.symm) (fun _ => g9.symm)), ?_⟩
      rw [hm, e423_17, wr_nei (by decide), show pv_c1 .ne (rd σ 123 122) = false from decide_eq_false (not_not_intro c0), cond_false]
    · obtain ⟨g0, g1, g2, g3, g4, g5, g6, g7, g8, g9, _⟩ := (h3 c0).1
      have hm2 : rn L xs (d + 3) 423 17 [.ref 123, .int (i32 (κ : Int))] [] (wr σ 123 0 0) = rn L xs (d + 3) 423 (t423 κ) [.ref 123, .int (i32 (κ : Int))] [] (wr σ 123 0 0) := by
        rw [e423_17, wr_nei (by decide), show pv_c1 .ne (rd σ 123 122) = true from decide_eq_true c0, cond_true, e423_26, swk_of (sw423 κ hκ)]
      have hk : κ = 0 ∨ κ = 1 ∨ κ = 2 ∨ κ = 3 ∨ κ = 4 ∨ κ = 5 ∨ κ = 6 ∨ κ = 7 ∨ κ = 8 ∨ κ = 9 := by omega
      rcases hk with k | k | k | k | k | k | k | k | k | k
      · refine ⟨rd σ 117 6, top _ (by rw [hc]; apply hcv <;> intro q <;> first | rfl | omega), ?_⟩
        rw [hm, hm2, k, show t423 0 = 76 from rfl, e423_76, wr_nei (by decide), g1]
      · refine ⟨rd σ 103 21, top _ (by rw [hc]; apply hcv <;> intro q <;> first | rfl | omega), ?_⟩
        rw [hm, hm2, k, show t423 1 = 81 from rfl, e423_81, wr_nei (by decide), g2]
      · refine ⟨rd σ 103 22, top _ (by rw [hc]; apply hcv <;> intro q <;> first | rfl | omega), ?_⟩
        rw [hm, hm2, k, show t423 2 = 86 from rfl, e423_86, wr_nei (by decide), g3]
      · refine ⟨rd σ 103 23, top _ (by rw [hc]; apply hcv <;> intro q <;> first | rfl | omega), ?_⟩
        rw [hm, hm2, k, show t423 3 = 91 from rfl, e423_91, wr_nei (by decide), g4]
      · refine ⟨rd σ 103 9, top _ (by rw [hc]; apply hcv <;> intro q <;> first | rfl | omega), ?_⟩
        rw [hm, hm2, k, show t423 4 = 96 from rfl, e423_96, wr_nei (by decide), g5]
      · refine ⟨rd σ 103 10, top _ (by rw [hc]; apply hcv <;> intro q <;> first | rfl | omega), ?_⟩
        rw [hm, hm2, k, show t423 5 = 101 from rfl, e423_101, wr_nei (by decide), g6]
      · refine ⟨rd σ 103 19, top _ (by rw [hc]; apply hcv <;> intro q <;> first | rfl | omega), ?_⟩
        rw [hm, hm2, k, show t423 6 = 106 from rfl, e423_106, wr_nei (by decide), g0, h19]
      · refine ⟨rd σ 103 20, top _ (by rw [hc]; apply hcv <;> intro q <;> first | rfl | omega), ?_⟩
        rw [hm, hm2, k, show t423 7 = 111 from rfl, e423_111, wr_nei (by decide), g7]
      · refine ⟨rd σ 117 17, top _ (by rw [hc]; apply hcv <;> intro q <;> first | rfl | omega), ?_⟩
        rw [hm, hm2, k, show t423 8 = 116 from rfl, e423_116, wr_nei (by decide), g8]
      · refine ⟨rd σ 100 2, top _ (by rw [hc]; apply hcv <;> intro q <;> first | rfl | omega), ?_⟩
        rw [hm, hm2, k, show t423 9 = 121 from rfl, e423_121, wr_nei (by decide), g9]
end TOLD
