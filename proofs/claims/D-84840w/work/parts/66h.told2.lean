/-! WHAT IS TOLD of a run: regions -/
/-- a switch, outside its rows -/
theorem sw_out {M pc t : Nat} {lo hi : Int} (h : (match insP M pc with | some (.tableswitch d l u _, _) => decide (l = lo ∧ u = hi ∧ tv_go ((pc : Int) + d) = some t) | _ => false) = true) {x : Int32} (hx : x.toInt < lo ∨ hi < x.toInt) : ((insP M pc).bind fun q => tv_sw q.1 pc x) = some t := by
  split at h
  · rename_i d l u o r e
    obtain ⟨h1, h2, h3⟩ := of_decide_eq_true h
    rw [e]
    have hx' : x.toInt < l ∨ u < x.toInt := by rw [h1, h2]; exact hx
    show (if x.toInt < l ∨ u < x.toInt then tv_go ((pc : Int) + d) else match o[(x.toInt - l).toNat]? with | some off => tv_go ((pc : Int) + off) | none => none) = some t
    rw [if_pos hx']
    exact h3
  · cases h
def t230 (κ : Nat) : Nat := [48, 55, 62, 69, 76].getD κ 83
def t424 (κ : Nat) : Nat := [60, 67, 74, 81, 88].getD κ 95
theorem sw230 : ∀ κ : Nat, κ < 5 → ((insP 230 15).bind fun q => tv_sw q.1 15 (i32 κ)) = some (t230 κ) := by
  have h : ((List.range 5).all fun κ => ((insP 230 15).bind fun q => tv_sw q.1 15 (i32 κ)) == some (t230 κ)) = true := by decide +kernel
  intro κ hκ
  exact eq_of_beq (List.all_eq_true.mp h κ (List.mem_range.mpr hκ))
theorem sw424 : ∀ κ : Nat, κ < 5 → ((insP 424 27).bind fun q => tv_sw q.1 27 (i32 κ)) = some (t424 κ) := by
  have h : ((List.range 5).all fun κ => ((insP 424 27).bind fun q => tv_sw q.1 27 (i32 κ)) == some (t424 κ)) = true := by decide +kernel
  intro κ hκ
  exact eq_of_beq (List.all_eq_true.mp h κ (List.mem_range.mpr hκ))
theorem sw2300 {x : Int32} (hx : x.toInt < 0 ∨ 4 < x.toInt) : ((insP 230 15).bind fun q => tv_sw q.1 15 x) = some 83 := by
  exact sw_out (lo := 0) (hi := 4) (by decide +kernel) hx
theorem sw4240 {x : Int32} (hx : x.toInt < 0 ∨ 4 < x.toInt) : ((insP 424 27).bind fun q => tv_sw q.1 27 x) = some 95 := by
  exact sw_out (lo := 0) (hi := 4) (by decide +kernel) hx
section TOLD2
variable {L : Nat} {xs : Nat → Int32} {σ : tvS}
/-- of a region -/
theorem region_op (h : TLD σ σ) (x y : Int32) (d : Nat) : ∃ z, rn L xs (d + 2) 17 0 [.ref 0, .int x, .int y] [] σ = some (.inl (some (.int z)), σ) ∧ rn L xs (d + 2) 424 0 [.ref 123, .int x, .int y] [] σ = some (.inl (some (.int z)), wr σ 123 0 0) := by
  obtain ⟨nr, hnr, h19, h1, h2, h3⟩ := h
  have top : ∀ z, rn L xs (d + 1) 230 0 [.ref 103, .int x, .int y] [] σ = some (.inl (some (.int z)), σ) → rn L xs (d + 2) 17 0 [.ref 0, .int x, .int y] [] σ = some (.inl (some (.int z)), σ) := fun z p => by rw [e17_0 (d + 1), bI_ok p]
  have cno : x.toInt < 0 ∨ (nr : Int) ≤ x.toInt → rn L xs (d + 1) 230 0 [.ref 103, .int x, .int y] [] σ = some (.inl (some (.int (i32 (-1)))), σ) := fun hx => by
    rw [e230_0, c1_ltx]
    by_cases c : x.toInt < 0
    · rw [c_t c, e230_12, i32_raw]
    · rw [c_f c, h19, c2_ltx, i32_ti (by omega) (by omega), c_f (by omega), e230_12, i32_raw]
  by_cases c0 : rd σ 123 122 = 0
  · obtain ⟨n0, _⟩ := h2 c0
    refine ⟨i32 (-1), top _ (cno (by omega)), ?_⟩
    rw [e424_0, show pv_c1 .eq (rd σ 123 122) = true from decide_eq_true c0, cond_true, e424_24, i32_raw]
  · obtain ⟨⟨g0, _⟩, g1⟩ := h3 c0
    by_cases cx : x.toInt < 0 ∨ (nr : Int) ≤ x.toInt
    · refine ⟨i32 (-1), top _ (cno cx), ?_⟩
      rw [e424_0, show pv_c1 .eq (rd σ 123 122) = false from decide_eq_false c0, cond_false, c1_ltx]
      by_cases c : x.toInt < 0
      · rw [c_t c, e424_24, i32_raw]
      · rw [c_f c, g0, c2_ltx, i32_ti (by omega) (by omega), c_f (by omega), e424_24, i32_raw]
    · obtain ⟨r, hr, ex⟩ : ∃ r : Nat, r < nr ∧ x = i32 (r : Int) := ⟨x.toInt.toNat, by omega, by rw [Int.toNat_of_nonneg (by omega), i32_of]⟩
      subst ex
      obtain ⟨q1, q2, q3, q4, q5⟩ := g1 r hr
      have hc : rn L xs (d + 1) 230 0 [.ref 103, .int (i32 (r : Int)), .int y] [] σ = rn L xs (d + 1) 230 14 [.ref 103, .int (i32 (r : Int)), .int y] [] σ := by
        rw [e230_0, c1_lt (by omega) (by omega), c_f (by omega), h19, c2_lt (by omega) (by omega) (by omega) (by omega), c_t (by omega)]
      have hm : rn L xs (d + 2) 424 0 [.ref 123, .int (i32 (r : Int)), .int y] [] σ = rn L xs (d + 2) 424 26 [.ref 123, .int (i32 (r : Int)), .int y] [] (wr σ 123 0 0) := by
        rw [e424_0, show pv_c1 .eq (rd σ 123 122) = false from decide_eq_false c0, cond_false, c1_lt (by omega) (by omega), c_f (by omega), g0, c2_lt (by omega) (by omega) (by omega) (by omega), c_t (by omega)]
      by_cases cy : y.toInt < 0 ∨ 4 < y.toInt
      · refine ⟨i32 (-1), top _ ?_, ?_⟩
        · rw [hc, e230_14, swk_of (sw2300 cy), e230_83, i32_raw]
        · rw [hm, e424_26, swk_of (sw4240 cy), e424_95, i32_raw]
      · obtain ⟨κ, hκ, ey⟩ : ∃ κ : Nat, κ < 5 ∧ y = i32 (κ : Int) := ⟨y.toInt.toNat, by omega, by rw [Int.toNat_of_nonneg (by omega), i32_of]⟩
        subst ey
        have hk : κ = 0 ∨ κ = 1 ∨ κ = 2 ∨ κ = 3 ∨ κ = 4 := by omega
        rw [hm, e424_26, swk_of (sw424 κ hκ)]
        rw [e230_14, swk_of (sw230 κ hκ)] at hc
        rcases hk with k | k | k | k | k
        · refine ⟨rd σ 108 r, top _ ?_, ?_⟩
          · rw [hc, k, show t230 0 = 48 from rfl, e230_48, c_in (by omega) (by omega) (by omega), i32_ixn (by omega)]
          · rw [k, show t424 0 = 60 from rfl, e424_60, c_in (by omega) (by omega) (by omega), i32_ixn (by omega), wr_nek (by decide), q1]
        · refine ⟨rd σ 109 r, top _ ?_, ?_⟩
          · rw [hc, k, show t230 1 = 55 from rfl, e230_55, c_in (by omega) (by omega) (by omega), i32_ixn (by omega)]
          · rw [k, show t424 1 = 67 from rfl, e424_67, c_in (by omega) (by omega) (by omega), i32_ixn (by omega), wr_nek (by decide), q2]
        · refine ⟨rd σ 113 r, top _ ?_, ?_⟩
          · rw [hc, k, show t230 2 = 62 from rfl, e230_62, c_in (by omega) (by omega) (by omega), i32_ixn (by omega)]
          · rw [k, show t424 2 = 74 from rfl, e424_74, c_in (by omega) (by omega) (by omega), i32_ixn (by omega), wr_nek (by decide), q3]
        · refine ⟨rd σ 114 r, top _ ?_, ?_⟩
          · rw [hc, k, show t230 3 = 69 from rfl, e230_69, c_in (by omega) (by omega) (by omega), i32_ixn (by omega)]
          · rw [k, show t424 3 = 81 from rfl, e424_81, c_in (by omega) (by omega) (by omega), i32_ixn (by omega), wr_nek (by decide), q4]
        · refine ⟨rd σ 112 r, top _ ?_, ?_⟩
          · rw [hc, k, show t230 4 = 76 from rfl, e230_76, c_in (by omega) (by omega) (by omega), i32_ixn (by omega)]
          · rw [k, show t424 4 = 88 from rfl, e424_88, c_in (by omega) (by omega) (by omega), i32_ixn (by omega), wr_nek (by decide), q5]
end TOLD2
